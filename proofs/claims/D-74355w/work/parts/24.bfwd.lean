/-! the forwarders, site by site -/
def fx (q : hL) (i : Nat) : Nat := ((fwB q.2.2.2 q.1.cls).data.toList.getD i 0).toNat * 256 + ((fwB q.2.2.2 q.1.cls).data.toList.getD (i + 1) 0).toNat
abbrev fC (q : hL) : ByteArray := fwB q.2.2.2 q.1.cls
set_option maxHeartbeats 4000000
set_option maxRecDepth 100000
theorem fo_0 : fwOK hS0.2.2.2 hS0.1.cls (fx hS0 6) (fun j => fx hS0 (2 + 4 * j)) = true := by decide +kernel
theorem fd_0_0 : decode (fC hS0) 0 = .ok (.aload_n 0, 1) := by decide +kernel
theorem fd_0_1 : decode (fC hS0) 1 = .ok (.getfield (fx hS0 2), 3) := by decide +kernel
theorem fd_0_4 : decode (fC hS0) 4 = .ok (.iload_n 1, 1) := by decide +kernel
theorem fd_0_5 : decode (fC hS0) 5 = .ok (.invokevirtual (fx hS0 6), 3) := by decide +kernel
theorem fd_0_8 : decode (fC hS0) 8 = .ok (.ireturn, 1) := by decide +kernel
theorem fo_1 : fwOK hS1.2.2.2 hS1.1.cls (fx hS1 6) (fun j => fx hS1 (2 + 4 * j)) = true := by decide +kernel
theorem fd_1_0 : decode (fC hS1) 0 = .ok (.aload_n 0, 1) := by decide +kernel
theorem fd_1_1 : decode (fC hS1) 1 = .ok (.getfield (fx hS1 2), 3) := by decide +kernel
theorem fd_1_4 : decode (fC hS1) 4 = .ok (.iload_n 1, 1) := by decide +kernel
theorem fd_1_5 : decode (fC hS1) 5 = .ok (.invokevirtual (fx hS1 6), 3) := by decide +kernel
theorem fd_1_8 : decode (fC hS1) 8 = .ok (.ireturn, 1) := by decide +kernel
theorem fo_2 : fwOK hS2.2.2.2 hS2.1.cls (fx hS2 6) (fun j => fx hS2 (2 + 4 * j)) = true := by decide +kernel
theorem fd_2_0 : decode (fC hS2) 0 = .ok (.aload_n 0, 1) := by decide +kernel
theorem fd_2_1 : decode (fC hS2) 1 = .ok (.getfield (fx hS2 2), 3) := by decide +kernel
theorem fd_2_4 : decode (fC hS2) 4 = .ok (.iload_n 1, 1) := by decide +kernel
theorem fd_2_5 : decode (fC hS2) 5 = .ok (.invokevirtual (fx hS2 6), 3) := by decide +kernel
theorem fd_2_8 : decode (fC hS2) 8 = .ok (.ireturn, 1) := by decide +kernel
theorem fo_3 : fwOK hS3.2.2.2 hS3.1.cls (fx hS3 6) (fun j => fx hS3 (2 + 4 * j)) = true := by decide +kernel
theorem fd_3_0 : decode (fC hS3) 0 = .ok (.aload_n 0, 1) := by decide +kernel
theorem fd_3_1 : decode (fC hS3) 1 = .ok (.getfield (fx hS3 2), 3) := by decide +kernel
theorem fd_3_4 : decode (fC hS3) 4 = .ok (.iload_n 1, 1) := by decide +kernel
theorem fd_3_5 : decode (fC hS3) 5 = .ok (.invokevirtual (fx hS3 6), 3) := by decide +kernel
theorem fd_3_8 : decode (fC hS3) 8 = .ok (.ireturn, 1) := by decide +kernel
theorem fo_4 : fwOK hS4.2.2.2 hS4.1.cls (fx hS4 6) (fun j => fx hS4 (2 + 4 * j)) = true := by decide +kernel
theorem fd_4_0 : decode (fC hS4) 0 = .ok (.aload_n 0, 1) := by decide +kernel
theorem fd_4_1 : decode (fC hS4) 1 = .ok (.getfield (fx hS4 2), 3) := by decide +kernel
theorem fd_4_4 : decode (fC hS4) 4 = .ok (.iload_n 1, 1) := by decide +kernel
theorem fd_4_5 : decode (fC hS4) 5 = .ok (.invokevirtual (fx hS4 6), 3) := by decide +kernel
theorem fd_4_8 : decode (fC hS4) 8 = .ok (.ireturn, 1) := by decide +kernel
theorem fo_5 : fwOK hS5.2.2.2 hS5.1.cls (fx hS5 6) (fun j => fx hS5 (2 + 4 * j)) = true := by decide +kernel
theorem fd_5_0 : decode (fC hS5) 0 = .ok (.aload_n 0, 1) := by decide +kernel
theorem fd_5_1 : decode (fC hS5) 1 = .ok (.getfield (fx hS5 2), 3) := by decide +kernel
theorem fd_5_4 : decode (fC hS5) 4 = .ok (.iload_n 1, 1) := by decide +kernel
theorem fd_5_5 : decode (fC hS5) 5 = .ok (.invokevirtual (fx hS5 6), 3) := by decide +kernel
theorem fd_5_8 : decode (fC hS5) 8 = .ok (.ireturn, 1) := by decide +kernel
theorem fo_6 : fwOK hS6.2.2.2 hS6.1.cls (fx hS6 6) (fun j => fx hS6 (2 + 4 * j)) = true := by decide +kernel
theorem fd_6_0 : decode (fC hS6) 0 = .ok (.aload_n 0, 1) := by decide +kernel
theorem fd_6_1 : decode (fC hS6) 1 = .ok (.getfield (fx hS6 2), 3) := by decide +kernel
theorem fd_6_4 : decode (fC hS6) 4 = .ok (.iload_n 1, 1) := by decide +kernel
theorem fd_6_5 : decode (fC hS6) 5 = .ok (.invokevirtual (fx hS6 6), 3) := by decide +kernel
theorem fd_6_8 : decode (fC hS6) 8 = .ok (.ireturn, 1) := by decide +kernel
theorem fo_7 : fwOK hS7.2.2.2 hS7.1.cls (fx hS7 7) (fun j => fx hS7 (2 + 4 * j)) = true := by decide +kernel
theorem fd_7_0 : decode (fC hS7) 0 = .ok (.aload_n 0, 1) := by decide +kernel
theorem fd_7_1 : decode (fC hS7) 1 = .ok (.getfield (fx hS7 2), 3) := by decide +kernel
theorem fd_7_4 : decode (fC hS7) 4 = .ok (.iload_n 1, 1) := by decide +kernel
theorem fd_7_5 : decode (fC hS7) 5 = .ok (.iload_n 2, 1) := by decide +kernel
theorem fd_7_6 : decode (fC hS7) 6 = .ok (.invokestatic (fx hS7 7), 3) := by decide +kernel
theorem fd_7_9 : decode (fC hS7) 9 = .ok (.ireturn, 1) := by decide +kernel
theorem fo_8 : fwOK hS8.2.2.2 hS8.1.cls (fx hS8 6) (fun j => fx hS8 (2 + 4 * j)) = true := by decide +kernel
theorem fd_8_0 : decode (fC hS8) 0 = .ok (.aload_n 0, 1) := by decide +kernel
theorem fd_8_1 : decode (fC hS8) 1 = .ok (.getfield (fx hS8 2), 3) := by decide +kernel
theorem fd_8_4 : decode (fC hS8) 4 = .ok (.iload_n 1, 1) := by decide +kernel
theorem fd_8_5 : decode (fC hS8) 5 = .ok (.invokevirtual (fx hS8 6), 3) := by decide +kernel
theorem fd_8_8 : decode (fC hS8) 8 = .ok (.ireturn, 1) := by decide +kernel
theorem fo_9 : fwOK hS9.2.2.2 hS9.1.cls (fx hS9 6) (fun j => fx hS9 (2 + 4 * j)) = true := by decide +kernel
theorem fd_9_0 : decode (fC hS9) 0 = .ok (.aload_n 0, 1) := by decide +kernel
theorem fd_9_1 : decode (fC hS9) 1 = .ok (.getfield (fx hS9 2), 3) := by decide +kernel
theorem fd_9_4 : decode (fC hS9) 4 = .ok (.iload_n 1, 1) := by decide +kernel
theorem fd_9_5 : decode (fC hS9) 5 = .ok (.invokevirtual (fx hS9 6), 3) := by decide +kernel
theorem fd_9_8 : decode (fC hS9) 8 = .ok (.ireturn, 1) := by decide +kernel
theorem fo_10 : fwOK hS10.2.2.2 hS10.1.cls (fx hS10 7) (fun j => fx hS10 (2 + 4 * j)) = true := by decide +kernel
theorem fd_10_0 : decode (fC hS10) 0 = .ok (.aload_n 0, 1) := by decide +kernel
theorem fd_10_1 : decode (fC hS10) 1 = .ok (.getfield (fx hS10 2), 3) := by decide +kernel
theorem fd_10_4 : decode (fC hS10) 4 = .ok (.iload_n 1, 1) := by decide +kernel
theorem fd_10_5 : decode (fC hS10) 5 = .ok (.iload_n 2, 1) := by decide +kernel
theorem fd_10_6 : decode (fC hS10) 6 = .ok (.invokestatic (fx hS10 7), 3) := by decide +kernel
theorem fd_10_9 : decode (fC hS10) 9 = .ok (.ireturn, 1) := by decide +kernel
theorem fo_11 : fwOK hS11.2.2.2 hS11.1.cls (fx hS11 6) (fun j => fx hS11 (2 + 4 * j)) = true := by decide +kernel
theorem fd_11_0 : decode (fC hS11) 0 = .ok (.aload_n 0, 1) := by decide +kernel
theorem fd_11_1 : decode (fC hS11) 1 = .ok (.getfield (fx hS11 2), 3) := by decide +kernel
theorem fd_11_4 : decode (fC hS11) 4 = .ok (.iload_n 1, 1) := by decide +kernel
theorem fd_11_5 : decode (fC hS11) 5 = .ok (.invokevirtual (fx hS11 6), 3) := by decide +kernel
theorem fd_11_8 : decode (fC hS11) 8 = .ok (.ireturn, 1) := by decide +kernel
theorem fo_12 : fwOK hS12.2.2.2 hS12.1.cls (fx hS12 7) (fun j => fx hS12 (2 + 4 * j)) = true := by decide +kernel
theorem fd_12_0 : decode (fC hS12) 0 = .ok (.aload_n 0, 1) := by decide +kernel
theorem fd_12_1 : decode (fC hS12) 1 = .ok (.getfield (fx hS12 2), 3) := by decide +kernel
theorem fd_12_4 : decode (fC hS12) 4 = .ok (.iload_n 1, 1) := by decide +kernel
theorem fd_12_5 : decode (fC hS12) 5 = .ok (.iload_n 2, 1) := by decide +kernel
theorem fd_12_6 : decode (fC hS12) 6 = .ok (.invokestatic (fx hS12 7), 3) := by decide +kernel
theorem fd_12_9 : decode (fC hS12) 9 = .ok (.ireturn, 1) := by decide +kernel
theorem fo_13 : fwOK hS13.2.2.2 hS13.1.cls (fx hS13 6) (fun j => fx hS13 (2 + 4 * j)) = true := by decide +kernel
theorem fd_13_0 : decode (fC hS13) 0 = .ok (.aload_n 0, 1) := by decide +kernel
theorem fd_13_1 : decode (fC hS13) 1 = .ok (.getfield (fx hS13 2), 3) := by decide +kernel
theorem fd_13_4 : decode (fC hS13) 4 = .ok (.iload_n 1, 1) := by decide +kernel
theorem fd_13_5 : decode (fC hS13) 5 = .ok (.invokevirtual (fx hS13 6), 3) := by decide +kernel
theorem fd_13_8 : decode (fC hS13) 8 = .ok (.ireturn, 1) := by decide +kernel
theorem fo_14 : fwOK hS14.2.2.2 hS14.1.cls (fx hS14 6) (fun j => fx hS14 (2 + 4 * j)) = true := by decide +kernel
theorem fd_14_0 : decode (fC hS14) 0 = .ok (.aload_n 0, 1) := by decide +kernel
theorem fd_14_1 : decode (fC hS14) 1 = .ok (.getfield (fx hS14 2), 3) := by decide +kernel
theorem fd_14_4 : decode (fC hS14) 4 = .ok (.iload_n 1, 1) := by decide +kernel
theorem fd_14_5 : decode (fC hS14) 5 = .ok (.invokevirtual (fx hS14 6), 3) := by decide +kernel
theorem fd_14_8 : decode (fC hS14) 8 = .ok (.ireturn, 1) := by decide +kernel
theorem fo_15 : fwOK hS15.2.2.2 hS15.1.cls (fx hS15 6) (fun j => fx hS15 (2 + 4 * j)) = true := by decide +kernel
theorem fd_15_0 : decode (fC hS15) 0 = .ok (.aload_n 0, 1) := by decide +kernel
theorem fd_15_1 : decode (fC hS15) 1 = .ok (.getfield (fx hS15 2), 3) := by decide +kernel
theorem fd_15_4 : decode (fC hS15) 4 = .ok (.iload_n 1, 1) := by decide +kernel
theorem fd_15_5 : decode (fC hS15) 5 = .ok (.invokestatic (fx hS15 6), 3) := by decide +kernel
theorem fd_15_8 : decode (fC hS15) 8 = .ok (.ireturn, 1) := by decide +kernel
theorem fo_16 : fwOK hS16.2.2.2 hS16.1.cls (fx hS16 6) (fun j => fx hS16 (2 + 4 * j)) = true := by decide +kernel
theorem fd_16_0 : decode (fC hS16) 0 = .ok (.aload_n 0, 1) := by decide +kernel
theorem fd_16_1 : decode (fC hS16) 1 = .ok (.getfield (fx hS16 2), 3) := by decide +kernel
theorem fd_16_4 : decode (fC hS16) 4 = .ok (.iload_n 1, 1) := by decide +kernel
theorem fd_16_5 : decode (fC hS16) 5 = .ok (.invokestatic (fx hS16 6), 3) := by decide +kernel
theorem fd_16_8 : decode (fC hS16) 8 = .ok (.ireturn, 1) := by decide +kernel
theorem fo_17 : fwOK hS17.2.2.2 hS17.1.cls (fx hS17 10) (fun j => fx hS17 (2 + 4 * j)) = true := by decide +kernel
theorem fd_17_0 : decode (fC hS17) 0 = .ok (.aload_n 0, 1) := by decide +kernel
theorem fd_17_1 : decode (fC hS17) 1 = .ok (.getfield (fx hS17 2), 3) := by decide +kernel
theorem fd_17_4 : decode (fC hS17) 4 = .ok (.aload_n 0, 1) := by decide +kernel
theorem fd_17_5 : decode (fC hS17) 5 = .ok (.getfield (fx hS17 6), 3) := by decide +kernel
theorem fd_17_8 : decode (fC hS17) 8 = .ok (.iload_n 1, 1) := by decide +kernel
theorem fd_17_9 : decode (fC hS17) 9 = .ok (.invokevirtual (fx hS17 10), 3) := by decide +kernel
theorem fd_17_12 : decode (fC hS17) 12 = .ok (.ireturn, 1) := by decide +kernel
theorem fo_18 : fwOK hS18.2.2.2 hS18.1.cls (fx hS18 10) (fun j => fx hS18 (2 + 4 * j)) = true := by decide +kernel
theorem fd_18_0 : decode (fC hS18) 0 = .ok (.aload_n 0, 1) := by decide +kernel
theorem fd_18_1 : decode (fC hS18) 1 = .ok (.getfield (fx hS18 2), 3) := by decide +kernel
theorem fd_18_4 : decode (fC hS18) 4 = .ok (.aload_n 0, 1) := by decide +kernel
theorem fd_18_5 : decode (fC hS18) 5 = .ok (.getfield (fx hS18 6), 3) := by decide +kernel
theorem fd_18_8 : decode (fC hS18) 8 = .ok (.iload_n 1, 1) := by decide +kernel
theorem fd_18_9 : decode (fC hS18) 9 = .ok (.invokevirtual (fx hS18 10), 3) := by decide +kernel
theorem fd_18_12 : decode (fC hS18) 12 = .ok (.ireturn, 1) := by decide +kernel
theorem fo_19 : fwOK hS19.2.2.2 hS19.1.cls (fx hS19 14) (fun j => fx hS19 (2 + 4 * j)) = true := by decide +kernel
theorem fd_19_0 : decode (fC hS19) 0 = .ok (.aload_n 0, 1) := by decide +kernel
theorem fd_19_1 : decode (fC hS19) 1 = .ok (.getfield (fx hS19 2), 3) := by decide +kernel
theorem fd_19_4 : decode (fC hS19) 4 = .ok (.aload_n 0, 1) := by decide +kernel
theorem fd_19_5 : decode (fC hS19) 5 = .ok (.getfield (fx hS19 6), 3) := by decide +kernel
theorem fd_19_8 : decode (fC hS19) 8 = .ok (.aload_n 0, 1) := by decide +kernel
theorem fd_19_9 : decode (fC hS19) 9 = .ok (.getfield (fx hS19 10), 3) := by decide +kernel
theorem fd_19_12 : decode (fC hS19) 12 = .ok (.iload_n 1, 1) := by decide +kernel
theorem fd_19_13 : decode (fC hS19) 13 = .ok (.invokevirtual (fx hS19 14), 3) := by decide +kernel
theorem fd_19_16 : decode (fC hS19) 16 = .ok (.ireturn, 1) := by decide +kernel
theorem fo_20 : fwOK hS20.2.2.2 hS20.1.cls (fx hS20 11) (fun j => fx hS20 (2 + 4 * j)) = true := by decide +kernel
theorem fd_20_0 : decode (fC hS20) 0 = .ok (.aload_n 0, 1) := by decide +kernel
theorem fd_20_1 : decode (fC hS20) 1 = .ok (.getfield (fx hS20 2), 3) := by decide +kernel
theorem fd_20_4 : decode (fC hS20) 4 = .ok (.aload_n 0, 1) := by decide +kernel
theorem fd_20_5 : decode (fC hS20) 5 = .ok (.getfield (fx hS20 6), 3) := by decide +kernel
theorem fd_20_8 : decode (fC hS20) 8 = .ok (.iload_n 1, 1) := by decide +kernel
theorem fd_20_9 : decode (fC hS20) 9 = .ok (.iload_n 2, 1) := by decide +kernel
theorem fd_20_10 : decode (fC hS20) 10 = .ok (.invokevirtual (fx hS20 11), 3) := by decide +kernel
theorem fd_20_13 : decode (fC hS20) 13 = .ok (.ireturn, 1) := by decide +kernel
theorem fo_21 : fwOK hS21.2.2.2 hS21.1.cls (fx hS21 14) (fun j => fx hS21 (2 + 4 * j)) = true := by decide +kernel
theorem fd_21_0 : decode (fC hS21) 0 = .ok (.aload_n 0, 1) := by decide +kernel
theorem fd_21_1 : decode (fC hS21) 1 = .ok (.getfield (fx hS21 2), 3) := by decide +kernel
theorem fd_21_4 : decode (fC hS21) 4 = .ok (.aload_n 0, 1) := by decide +kernel
theorem fd_21_5 : decode (fC hS21) 5 = .ok (.getfield (fx hS21 6), 3) := by decide +kernel
theorem fd_21_8 : decode (fC hS21) 8 = .ok (.aload_n 0, 1) := by decide +kernel
theorem fd_21_9 : decode (fC hS21) 9 = .ok (.getfield (fx hS21 10), 3) := by decide +kernel
theorem fd_21_12 : decode (fC hS21) 12 = .ok (.iload_n 1, 1) := by decide +kernel
theorem fd_21_13 : decode (fC hS21) 13 = .ok (.invokevirtual (fx hS21 14), 3) := by decide +kernel
theorem fd_21_16 : decode (fC hS21) 16 = .ok (.ireturn, 1) := by decide +kernel
theorem fo_22 : fwOK hS22.2.2.2 hS22.1.cls (fx hS22 6) (fun j => fx hS22 (2 + 4 * j)) = true := by decide +kernel
theorem fd_22_0 : decode (fC hS22) 0 = .ok (.aload_n 0, 1) := by decide +kernel
theorem fd_22_1 : decode (fC hS22) 1 = .ok (.getfield (fx hS22 2), 3) := by decide +kernel
theorem fd_22_4 : decode (fC hS22) 4 = .ok (.iload_n 1, 1) := by decide +kernel
theorem fd_22_5 : decode (fC hS22) 5 = .ok (.invokestatic (fx hS22 6), 3) := by decide +kernel
theorem fd_22_8 : decode (fC hS22) 8 = .ok (.ireturn, 1) := by decide +kernel
theorem fo_23 : fwOK hS23.2.2.2 hS23.1.cls (fx hS23 6) (fun j => fx hS23 (2 + 4 * j)) = true := by decide +kernel
theorem fd_23_0 : decode (fC hS23) 0 = .ok (.aload_n 0, 1) := by decide +kernel
theorem fd_23_1 : decode (fC hS23) 1 = .ok (.getfield (fx hS23 2), 3) := by decide +kernel
theorem fd_23_4 : decode (fC hS23) 4 = .ok (.iload_n 1, 1) := by decide +kernel
theorem fd_23_5 : decode (fC hS23) 5 = .ok (.invokestatic (fx hS23 6), 3) := by decide +kernel
theorem fd_23_8 : decode (fC hS23) 8 = .ok (.ireturn, 1) := by decide +kernel
theorem fo_24 : fwOK hS24.2.2.2 hS24.1.cls (fx hS24 6) (fun j => fx hS24 (2 + 4 * j)) = true := by decide +kernel
theorem fd_24_0 : decode (fC hS24) 0 = .ok (.aload_n 0, 1) := by decide +kernel
theorem fd_24_1 : decode (fC hS24) 1 = .ok (.getfield (fx hS24 2), 3) := by decide +kernel
theorem fd_24_4 : decode (fC hS24) 4 = .ok (.iload_n 1, 1) := by decide +kernel
theorem fd_24_5 : decode (fC hS24) 5 = .ok (.invokestatic (fx hS24 6), 3) := by decide +kernel
theorem fd_24_8 : decode (fC hS24) 8 = .ok (.ireturn, 1) := by decide +kernel
theorem fo_25 : fwOK hS25.2.2.2 hS25.1.cls (fx hS25 6) (fun j => fx hS25 (2 + 4 * j)) = true := by decide +kernel
theorem fd_25_0 : decode (fC hS25) 0 = .ok (.aload_n 0, 1) := by decide +kernel
theorem fd_25_1 : decode (fC hS25) 1 = .ok (.getfield (fx hS25 2), 3) := by decide +kernel
theorem fd_25_4 : decode (fC hS25) 4 = .ok (.iload_n 1, 1) := by decide +kernel
theorem fd_25_5 : decode (fC hS25) 5 = .ok (.invokestatic (fx hS25 6), 3) := by decide +kernel
theorem fd_25_8 : decode (fC hS25) 8 = .ok (.ireturn, 1) := by decide +kernel
theorem fo_26 : fwOK hS26.2.2.2 hS26.1.cls (fx hS26 10) (fun j => fx hS26 (2 + 4 * j)) = true := by decide +kernel
theorem fd_26_0 : decode (fC hS26) 0 = .ok (.aload_n 0, 1) := by decide +kernel
theorem fd_26_1 : decode (fC hS26) 1 = .ok (.getfield (fx hS26 2), 3) := by decide +kernel
theorem fd_26_4 : decode (fC hS26) 4 = .ok (.aload_n 0, 1) := by decide +kernel
theorem fd_26_5 : decode (fC hS26) 5 = .ok (.getfield (fx hS26 6), 3) := by decide +kernel
theorem fd_26_8 : decode (fC hS26) 8 = .ok (.iload_n 1, 1) := by decide +kernel
theorem fd_26_9 : decode (fC hS26) 9 = .ok (.invokevirtual (fx hS26 10), 3) := by decide +kernel
theorem fd_26_12 : decode (fC hS26) 12 = .ok (.ireturn, 1) := by decide +kernel
theorem fo_27 : fwOK hS27.2.2.2 hS27.1.cls (fx hS27 10) (fun j => fx hS27 (2 + 4 * j)) = true := by decide +kernel
theorem fd_27_0 : decode (fC hS27) 0 = .ok (.aload_n 0, 1) := by decide +kernel
theorem fd_27_1 : decode (fC hS27) 1 = .ok (.getfield (fx hS27 2), 3) := by decide +kernel
theorem fd_27_4 : decode (fC hS27) 4 = .ok (.aload_n 0, 1) := by decide +kernel
theorem fd_27_5 : decode (fC hS27) 5 = .ok (.getfield (fx hS27 6), 3) := by decide +kernel
theorem fd_27_8 : decode (fC hS27) 8 = .ok (.iload_n 1, 1) := by decide +kernel
theorem fd_27_9 : decode (fC hS27) 9 = .ok (.invokevirtual (fx hS27 10), 3) := by decide +kernel
theorem fd_27_12 : decode (fC hS27) 12 = .ok (.ireturn, 1) := by decide +kernel
theorem fo_28 : fwOK hS28.2.2.2 hS28.1.cls (fx hS28 10) (fun j => fx hS28 (2 + 4 * j)) = true := by decide +kernel
theorem fd_28_0 : decode (fC hS28) 0 = .ok (.aload_n 0, 1) := by decide +kernel
theorem fd_28_1 : decode (fC hS28) 1 = .ok (.getfield (fx hS28 2), 3) := by decide +kernel
theorem fd_28_4 : decode (fC hS28) 4 = .ok (.aload_n 0, 1) := by decide +kernel
theorem fd_28_5 : decode (fC hS28) 5 = .ok (.getfield (fx hS28 6), 3) := by decide +kernel
theorem fd_28_8 : decode (fC hS28) 8 = .ok (.iload_n 1, 1) := by decide +kernel
theorem fd_28_9 : decode (fC hS28) 9 = .ok (.invokevirtual (fx hS28 10), 3) := by decide +kernel
theorem fd_28_12 : decode (fC hS28) 12 = .ok (.ireturn, 1) := by decide +kernel
theorem fo_29 : fwOK hS29.2.2.2 hS29.1.cls (fx hS29 10) (fun j => fx hS29 (2 + 4 * j)) = true := by decide +kernel
theorem fd_29_0 : decode (fC hS29) 0 = .ok (.aload_n 0, 1) := by decide +kernel
theorem fd_29_1 : decode (fC hS29) 1 = .ok (.getfield (fx hS29 2), 3) := by decide +kernel
theorem fd_29_4 : decode (fC hS29) 4 = .ok (.aload_n 0, 1) := by decide +kernel
theorem fd_29_5 : decode (fC hS29) 5 = .ok (.getfield (fx hS29 6), 3) := by decide +kernel
theorem fd_29_8 : decode (fC hS29) 8 = .ok (.iload_n 1, 1) := by decide +kernel
theorem fd_29_9 : decode (fC hS29) 9 = .ok (.invokevirtual (fx hS29 10), 3) := by decide +kernel
theorem fd_29_12 : decode (fC hS29) 12 = .ok (.ireturn, 1) := by decide +kernel
theorem fo_30 : fwOK hS30.2.2.2 hS30.1.cls (fx hS30 14) (fun j => fx hS30 (2 + 4 * j)) = true := by decide +kernel
theorem fd_30_0 : decode (fC hS30) 0 = .ok (.aload_n 0, 1) := by decide +kernel
theorem fd_30_1 : decode (fC hS30) 1 = .ok (.getfield (fx hS30 2), 3) := by decide +kernel
theorem fd_30_4 : decode (fC hS30) 4 = .ok (.aload_n 0, 1) := by decide +kernel
theorem fd_30_5 : decode (fC hS30) 5 = .ok (.getfield (fx hS30 6), 3) := by decide +kernel
theorem fd_30_8 : decode (fC hS30) 8 = .ok (.aload_n 0, 1) := by decide +kernel
theorem fd_30_9 : decode (fC hS30) 9 = .ok (.getfield (fx hS30 10), 3) := by decide +kernel
theorem fd_30_12 : decode (fC hS30) 12 = .ok (.iload_n 1, 1) := by decide +kernel
theorem fd_30_13 : decode (fC hS30) 13 = .ok (.invokevirtual (fx hS30 14), 3) := by decide +kernel
theorem fd_30_16 : decode (fC hS30) 16 = .ok (.ireturn, 1) := by decide +kernel
theorem fo_31 : fwOK hS31.2.2.2 hS31.1.cls (fx hS31 10) (fun j => fx hS31 (2 + 4 * j)) = true := by decide +kernel
theorem fd_31_0 : decode (fC hS31) 0 = .ok (.aload_n 0, 1) := by decide +kernel
theorem fd_31_1 : decode (fC hS31) 1 = .ok (.getfield (fx hS31 2), 3) := by decide +kernel
theorem fd_31_4 : decode (fC hS31) 4 = .ok (.aload_n 0, 1) := by decide +kernel
theorem fd_31_5 : decode (fC hS31) 5 = .ok (.getfield (fx hS31 6), 3) := by decide +kernel
theorem fd_31_8 : decode (fC hS31) 8 = .ok (.iload_n 1, 1) := by decide +kernel
theorem fd_31_9 : decode (fC hS31) 9 = .ok (.invokevirtual (fx hS31 10), 3) := by decide +kernel
theorem fd_31_12 : decode (fC hS31) 12 = .ok (.ireturn, 1) := by decide +kernel
theorem fo_32 : fwOK hS32.2.2.2 hS32.1.cls (fx hS32 10) (fun j => fx hS32 (2 + 4 * j)) = true := by decide +kernel
theorem fd_32_0 : decode (fC hS32) 0 = .ok (.aload_n 0, 1) := by decide +kernel
theorem fd_32_1 : decode (fC hS32) 1 = .ok (.getfield (fx hS32 2), 3) := by decide +kernel
theorem fd_32_4 : decode (fC hS32) 4 = .ok (.aload_n 0, 1) := by decide +kernel
theorem fd_32_5 : decode (fC hS32) 5 = .ok (.getfield (fx hS32 6), 3) := by decide +kernel
theorem fd_32_8 : decode (fC hS32) 8 = .ok (.iload_n 1, 1) := by decide +kernel
theorem fd_32_9 : decode (fC hS32) 9 = .ok (.invokevirtual (fx hS32 10), 3) := by decide +kernel
theorem fd_32_12 : decode (fC hS32) 12 = .ok (.ireturn, 1) := by decide +kernel
theorem fo_33 : fwOK hS33.2.2.2 hS33.1.cls (fx hS33 10) (fun j => fx hS33 (2 + 4 * j)) = true := by decide +kernel
theorem fd_33_0 : decode (fC hS33) 0 = .ok (.aload_n 0, 1) := by decide +kernel
theorem fd_33_1 : decode (fC hS33) 1 = .ok (.getfield (fx hS33 2), 3) := by decide +kernel
theorem fd_33_4 : decode (fC hS33) 4 = .ok (.aload_n 0, 1) := by decide +kernel
theorem fd_33_5 : decode (fC hS33) 5 = .ok (.getfield (fx hS33 6), 3) := by decide +kernel
theorem fd_33_8 : decode (fC hS33) 8 = .ok (.iload_n 1, 1) := by decide +kernel
theorem fd_33_9 : decode (fC hS33) 9 = .ok (.invokevirtual (fx hS33 10), 3) := by decide +kernel
theorem fd_33_12 : decode (fC hS33) 12 = .ok (.ireturn, 1) := by decide +kernel
theorem fo_34 : fwOK hS34.2.2.2 hS34.1.cls (fx hS34 14) (fun j => fx hS34 (2 + 4 * j)) = true := by decide +kernel
theorem fd_34_0 : decode (fC hS34) 0 = .ok (.aload_n 0, 1) := by decide +kernel
theorem fd_34_1 : decode (fC hS34) 1 = .ok (.getfield (fx hS34 2), 3) := by decide +kernel
theorem fd_34_4 : decode (fC hS34) 4 = .ok (.aload_n 0, 1) := by decide +kernel
theorem fd_34_5 : decode (fC hS34) 5 = .ok (.getfield (fx hS34 6), 3) := by decide +kernel
theorem fd_34_8 : decode (fC hS34) 8 = .ok (.aload_n 0, 1) := by decide +kernel
theorem fd_34_9 : decode (fC hS34) 9 = .ok (.getfield (fx hS34 10), 3) := by decide +kernel
theorem fd_34_12 : decode (fC hS34) 12 = .ok (.iload_n 1, 1) := by decide +kernel
theorem fd_34_13 : decode (fC hS34) 13 = .ok (.invokevirtual (fx hS34 14), 3) := by decide +kernel
theorem fd_34_16 : decode (fC hS34) 16 = .ok (.ireturn, 1) := by decide +kernel
theorem fo_35 : fwOK hS35.2.2.2 hS35.1.cls (fx hS35 6) (fun j => fx hS35 (2 + 4 * j)) = true := by decide +kernel
theorem fd_35_0 : decode (fC hS35) 0 = .ok (.aload_n 0, 1) := by decide +kernel
theorem fd_35_1 : decode (fC hS35) 1 = .ok (.getfield (fx hS35 2), 3) := by decide +kernel
theorem fd_35_4 : decode (fC hS35) 4 = .ok (.iload_n 1, 1) := by decide +kernel
theorem fd_35_5 : decode (fC hS35) 5 = .ok (.invokevirtual (fx hS35 6), 3) := by decide +kernel
theorem fd_35_8 : decode (fC hS35) 8 = .ok (.ireturn, 1) := by decide +kernel
theorem fo_36 : fwOK hS36.2.2.2 hS36.1.cls (fx hS36 10) (fun j => fx hS36 (2 + 4 * j)) = true := by decide +kernel
theorem fd_36_0 : decode (fC hS36) 0 = .ok (.aload_n 0, 1) := by decide +kernel
theorem fd_36_1 : decode (fC hS36) 1 = .ok (.getfield (fx hS36 2), 3) := by decide +kernel
theorem fd_36_4 : decode (fC hS36) 4 = .ok (.aload_n 0, 1) := by decide +kernel
theorem fd_36_5 : decode (fC hS36) 5 = .ok (.getfield (fx hS36 6), 3) := by decide +kernel
theorem fd_36_8 : decode (fC hS36) 8 = .ok (.iload_n 1, 1) := by decide +kernel
theorem fd_36_9 : decode (fC hS36) 9 = .ok (.invokevirtual (fx hS36 10), 3) := by decide +kernel
theorem fd_36_12 : decode (fC hS36) 12 = .ok (.ireturn, 1) := by decide +kernel
theorem fo_37 : fwOK hS37.2.2.2 hS37.1.cls (fx hS37 6) (fun j => fx hS37 (2 + 4 * j)) = true := by decide +kernel
theorem fd_37_0 : decode (fC hS37) 0 = .ok (.aload_n 0, 1) := by decide +kernel
theorem fd_37_1 : decode (fC hS37) 1 = .ok (.getfield (fx hS37 2), 3) := by decide +kernel
theorem fd_37_4 : decode (fC hS37) 4 = .ok (.iload_n 1, 1) := by decide +kernel
theorem fd_37_5 : decode (fC hS37) 5 = .ok (.invokevirtual (fx hS37 6), 3) := by decide +kernel
theorem fd_37_8 : decode (fC hS37) 8 = .ok (.ireturn, 1) := by decide +kernel
theorem fo_38 : fwOK hS38.2.2.2 hS38.1.cls (fx hS38 10) (fun j => fx hS38 (2 + 4 * j)) = true := by decide +kernel
theorem fd_38_0 : decode (fC hS38) 0 = .ok (.aload_n 0, 1) := by decide +kernel
theorem fd_38_1 : decode (fC hS38) 1 = .ok (.getfield (fx hS38 2), 3) := by decide +kernel
theorem fd_38_4 : decode (fC hS38) 4 = .ok (.aload_n 0, 1) := by decide +kernel
theorem fd_38_5 : decode (fC hS38) 5 = .ok (.getfield (fx hS38 6), 3) := by decide +kernel
theorem fd_38_8 : decode (fC hS38) 8 = .ok (.iload_n 1, 1) := by decide +kernel
theorem fd_38_9 : decode (fC hS38) 9 = .ok (.invokevirtual (fx hS38 10), 3) := by decide +kernel
theorem fd_38_12 : decode (fC hS38) 12 = .ok (.ireturn, 1) := by decide +kernel
theorem fo_39 : fwOK hS39.2.2.2 hS39.1.cls (fx hS39 10) (fun j => fx hS39 (2 + 4 * j)) = true := by decide +kernel
theorem fd_39_0 : decode (fC hS39) 0 = .ok (.aload_n 0, 1) := by decide +kernel
theorem fd_39_1 : decode (fC hS39) 1 = .ok (.getfield (fx hS39 2), 3) := by decide +kernel
theorem fd_39_4 : decode (fC hS39) 4 = .ok (.aload_n 0, 1) := by decide +kernel
theorem fd_39_5 : decode (fC hS39) 5 = .ok (.getfield (fx hS39 6), 3) := by decide +kernel
theorem fd_39_8 : decode (fC hS39) 8 = .ok (.iload_n 1, 1) := by decide +kernel
theorem fd_39_9 : decode (fC hS39) 9 = .ok (.invokevirtual (fx hS39 10), 3) := by decide +kernel
theorem fd_39_12 : decode (fC hS39) 12 = .ok (.ireturn, 1) := by decide +kernel
theorem fo_40 : fwOK hS40.2.2.2 hS40.1.cls (fx hS40 10) (fun j => fx hS40 (2 + 4 * j)) = true := by decide +kernel
theorem fd_40_0 : decode (fC hS40) 0 = .ok (.aload_n 0, 1) := by decide +kernel
theorem fd_40_1 : decode (fC hS40) 1 = .ok (.getfield (fx hS40 2), 3) := by decide +kernel
theorem fd_40_4 : decode (fC hS40) 4 = .ok (.aload_n 0, 1) := by decide +kernel
theorem fd_40_5 : decode (fC hS40) 5 = .ok (.getfield (fx hS40 6), 3) := by decide +kernel
theorem fd_40_8 : decode (fC hS40) 8 = .ok (.iload_n 1, 1) := by decide +kernel
theorem fd_40_9 : decode (fC hS40) 9 = .ok (.invokevirtual (fx hS40 10), 3) := by decide +kernel
theorem fd_40_12 : decode (fC hS40) 12 = .ok (.ireturn, 1) := by decide +kernel
theorem fo_41 : fwOK hS41.2.2.2 hS41.1.cls (fx hS41 10) (fun j => fx hS41 (2 + 4 * j)) = true := by decide +kernel
theorem fd_41_0 : decode (fC hS41) 0 = .ok (.aload_n 0, 1) := by decide +kernel
theorem fd_41_1 : decode (fC hS41) 1 = .ok (.getfield (fx hS41 2), 3) := by decide +kernel
theorem fd_41_4 : decode (fC hS41) 4 = .ok (.aload_n 0, 1) := by decide +kernel
theorem fd_41_5 : decode (fC hS41) 5 = .ok (.getfield (fx hS41 6), 3) := by decide +kernel
theorem fd_41_8 : decode (fC hS41) 8 = .ok (.iload_n 1, 1) := by decide +kernel
theorem fd_41_9 : decode (fC hS41) 9 = .ok (.invokevirtual (fx hS41 10), 3) := by decide +kernel
theorem fd_41_12 : decode (fC hS41) 12 = .ok (.ireturn, 1) := by decide +kernel
