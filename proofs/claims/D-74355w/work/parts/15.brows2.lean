/-! the sites of lambdas, as the Statement has them -/
def hS0 : hL := (({ cls := "HomesQueue$Register", name := "<init>", desc := "(LHomesQueue;)V" } : Jvm.MethodName), (218 : Nat), (85 : Nat), ({ iface := "HomesQueue$Check", name := "is", sam := ({ parameters := [Jvm.ClassFile.FieldType.int], returnType := (Option.some Jvm.ClassFile.FieldType.boolean) } : Jvm.ClassFile.MethodDescriptor), captured := [(Jvm.ClassFile.FieldType.object "HomesQueue$Register")], kind := 5, implClass := "HomesQueue$Register", implName := "lambda$new$0", implDesc := ({ parameters := [Jvm.ClassFile.FieldType.int], returnType := (Option.some Jvm.ClassFile.FieldType.boolean) } : Jvm.ClassFile.MethodDescriptor), implItf := false, inst := ({ parameters := [Jvm.ClassFile.FieldType.int], returnType := (Option.some Jvm.ClassFile.FieldType.boolean) } : Jvm.ClassFile.MethodDescriptor) } : Jvm.Lambda.Shape))
def hS1 : hL := (({ cls := "HomesQueue$Register", name := "<init>", desc := "(LHomesQueue;)V" } : Jvm.MethodName), (227 : Nat), (89 : Nat), ({ iface := "HomesQueue$Check", name := "is", sam := ({ parameters := [Jvm.ClassFile.FieldType.int], returnType := (Option.some Jvm.ClassFile.FieldType.boolean) } : Jvm.ClassFile.MethodDescriptor), captured := [(Jvm.ClassFile.FieldType.object "HomesQueue$Register")], kind := 5, implClass := "HomesQueue$Register", implName := "lambda$new$1", implDesc := ({ parameters := [Jvm.ClassFile.FieldType.int], returnType := (Option.some Jvm.ClassFile.FieldType.boolean) } : Jvm.ClassFile.MethodDescriptor), implItf := false, inst := ({ parameters := [Jvm.ClassFile.FieldType.int], returnType := (Option.some Jvm.ClassFile.FieldType.boolean) } : Jvm.ClassFile.MethodDescriptor) } : Jvm.Lambda.Shape))
def hS2 : hL := (({ cls := "HomesQueue$Register", name := "<init>", desc := "(LHomesQueue;)V" } : Jvm.MethodName), (236 : Nat), (90 : Nat), ({ iface := "HomesQueue$Check", name := "is", sam := ({ parameters := [Jvm.ClassFile.FieldType.int], returnType := (Option.some Jvm.ClassFile.FieldType.boolean) } : Jvm.ClassFile.MethodDescriptor), captured := [(Jvm.ClassFile.FieldType.object "HomesQueue$Register")], kind := 5, implClass := "HomesQueue$Register", implName := "lambda$new$2", implDesc := ({ parameters := [Jvm.ClassFile.FieldType.int], returnType := (Option.some Jvm.ClassFile.FieldType.boolean) } : Jvm.ClassFile.MethodDescriptor), implItf := false, inst := ({ parameters := [Jvm.ClassFile.FieldType.int], returnType := (Option.some Jvm.ClassFile.FieldType.boolean) } : Jvm.ClassFile.MethodDescriptor) } : Jvm.Lambda.Shape))
def hS3 : hL := (({ cls := "HomesQueue$Register", name := "<init>", desc := "(LHomesQueue;)V" } : Jvm.MethodName), (245 : Nat), (91 : Nat), ({ iface := "HomesQueue$Check", name := "is", sam := ({ parameters := [Jvm.ClassFile.FieldType.int], returnType := (Option.some Jvm.ClassFile.FieldType.boolean) } : Jvm.ClassFile.MethodDescriptor), captured := [(Jvm.ClassFile.FieldType.object "HomesQueue$Register")], kind := 5, implClass := "HomesQueue$Register", implName := "lambda$new$3", implDesc := ({ parameters := [Jvm.ClassFile.FieldType.int], returnType := (Option.some Jvm.ClassFile.FieldType.boolean) } : Jvm.ClassFile.MethodDescriptor), implItf := false, inst := ({ parameters := [Jvm.ClassFile.FieldType.int], returnType := (Option.some Jvm.ClassFile.FieldType.boolean) } : Jvm.ClassFile.MethodDescriptor) } : Jvm.Lambda.Shape))
def hS4 : hL := (({ cls := "HomesQueue$Register", name := "<init>", desc := "(LHomesQueue;)V" } : Jvm.MethodName), (254 : Nat), (92 : Nat), ({ iface := "HomesQueue$Check", name := "is", sam := ({ parameters := [Jvm.ClassFile.FieldType.int], returnType := (Option.some Jvm.ClassFile.FieldType.boolean) } : Jvm.ClassFile.MethodDescriptor), captured := [(Jvm.ClassFile.FieldType.object "HomesQueue$Register")], kind := 5, implClass := "HomesQueue$Register", implName := "lambda$new$4", implDesc := ({ parameters := [Jvm.ClassFile.FieldType.int], returnType := (Option.some Jvm.ClassFile.FieldType.boolean) } : Jvm.ClassFile.MethodDescriptor), implItf := false, inst := ({ parameters := [Jvm.ClassFile.FieldType.int], returnType := (Option.some Jvm.ClassFile.FieldType.boolean) } : Jvm.ClassFile.MethodDescriptor) } : Jvm.Lambda.Shape))
def hS5 : hL := (({ cls := "HomesQueue$Register", name := "<init>", desc := "(LHomesQueue;)V" } : Jvm.MethodName), (263 : Nat), (93 : Nat), ({ iface := "HomesQueue$Check", name := "is", sam := ({ parameters := [Jvm.ClassFile.FieldType.int], returnType := (Option.some Jvm.ClassFile.FieldType.boolean) } : Jvm.ClassFile.MethodDescriptor), captured := [(Jvm.ClassFile.FieldType.object "HomesQueue$Register")], kind := 5, implClass := "HomesQueue$Register", implName := "lambda$new$5", implDesc := ({ parameters := [Jvm.ClassFile.FieldType.int], returnType := (Option.some Jvm.ClassFile.FieldType.boolean) } : Jvm.ClassFile.MethodDescriptor), implItf := false, inst := ({ parameters := [Jvm.ClassFile.FieldType.int], returnType := (Option.some Jvm.ClassFile.FieldType.boolean) } : Jvm.ClassFile.MethodDescriptor) } : Jvm.Lambda.Shape))
def hS6 : hL := (({ cls := "HomesQueue$Register", name := "<init>", desc := "(LHomesQueue;)V" } : Jvm.MethodName), (280 : Nat), (100 : Nat), ({ iface := "HomesQueue$Number", name := "of", sam := ({ parameters := [Jvm.ClassFile.FieldType.int], returnType := (Option.some Jvm.ClassFile.FieldType.int) } : Jvm.ClassFile.MethodDescriptor), captured := [(Jvm.ClassFile.FieldType.object "HomesQueue$Register")], kind := 5, implClass := "HomesQueue$Register", implName := "bandThought", implDesc := ({ parameters := [Jvm.ClassFile.FieldType.int], returnType := (Option.some Jvm.ClassFile.FieldType.int) } : Jvm.ClassFile.MethodDescriptor), implItf := false, inst := ({ parameters := [Jvm.ClassFile.FieldType.int], returnType := (Option.some Jvm.ClassFile.FieldType.int) } : Jvm.ClassFile.MethodDescriptor) } : Jvm.Lambda.Shape))
def hS7 : hL := (({ cls := "HomesQueue", name := "rising", desc := "(LHomesQueue$Number;)LHomesQueue$Step;" } : Jvm.MethodName), (1 : Nat), (33 : Nat), ({ iface := "HomesQueue$Step", name := "by", sam := ({ parameters := [Jvm.ClassFile.FieldType.int, Jvm.ClassFile.FieldType.int], returnType := (Option.some Jvm.ClassFile.FieldType.int) } : Jvm.ClassFile.MethodDescriptor), captured := [(Jvm.ClassFile.FieldType.object "HomesQueue$Number")], kind := 6, implClass := "HomesQueue", implName := "lambda$rising$1", implDesc := ({ parameters := [(Jvm.ClassFile.FieldType.object "HomesQueue$Number"), Jvm.ClassFile.FieldType.int, Jvm.ClassFile.FieldType.int], returnType := (Option.some Jvm.ClassFile.FieldType.int) } : Jvm.ClassFile.MethodDescriptor), implItf := false, inst := ({ parameters := [Jvm.ClassFile.FieldType.int, Jvm.ClassFile.FieldType.int], returnType := (Option.some Jvm.ClassFile.FieldType.int) } : Jvm.ClassFile.MethodDescriptor) } : Jvm.Lambda.Shape))
def hS8 : hL := (({ cls := "HomesQueue$Register", name := "<init>", desc := "(LHomesQueue;)V" } : Jvm.MethodName), (292 : Nat), (108 : Nat), ({ iface := "HomesQueue$Number", name := "of", sam := ({ parameters := [Jvm.ClassFile.FieldType.int], returnType := (Option.some Jvm.ClassFile.FieldType.int) } : Jvm.ClassFile.MethodDescriptor), captured := [(Jvm.ClassFile.FieldType.object "HomesQueue$Register")], kind := 5, implClass := "HomesQueue$Register", implName := "dayOf", implDesc := ({ parameters := [Jvm.ClassFile.FieldType.int], returnType := (Option.some Jvm.ClassFile.FieldType.int) } : Jvm.ClassFile.MethodDescriptor), implItf := false, inst := ({ parameters := [Jvm.ClassFile.FieldType.int], returnType := (Option.some Jvm.ClassFile.FieldType.int) } : Jvm.ClassFile.MethodDescriptor) } : Jvm.Lambda.Shape))
def hS9 : hL := (({ cls := "HomesQueue$Register", name := "<init>", desc := "(LHomesQueue;)V" } : Jvm.MethodName), (304 : Nat), (109 : Nat), ({ iface := "HomesQueue$Number", name := "of", sam := ({ parameters := [Jvm.ClassFile.FieldType.int], returnType := (Option.some Jvm.ClassFile.FieldType.int) } : Jvm.ClassFile.MethodDescriptor), captured := [(Jvm.ClassFile.FieldType.object "HomesQueue$Register")], kind := 5, implClass := "HomesQueue$Register", implName := "numberOf", implDesc := ({ parameters := [Jvm.ClassFile.FieldType.int], returnType := (Option.some Jvm.ClassFile.FieldType.int) } : Jvm.ClassFile.MethodDescriptor), implItf := false, inst := ({ parameters := [Jvm.ClassFile.FieldType.int], returnType := (Option.some Jvm.ClassFile.FieldType.int) } : Jvm.ClassFile.MethodDescriptor) } : Jvm.Lambda.Shape))
def hS10 : hL := (({ cls := "HomesQueue", name := "inTurn", desc := "([LHomesQueue$Step;)LHomesQueue$Step;" } : Jvm.MethodName), (1 : Nat), (30 : Nat), ({ iface := "HomesQueue$Step", name := "by", sam := ({ parameters := [Jvm.ClassFile.FieldType.int, Jvm.ClassFile.FieldType.int], returnType := (Option.some Jvm.ClassFile.FieldType.int) } : Jvm.ClassFile.MethodDescriptor), captured := [(Jvm.ClassFile.FieldType.array (Jvm.ClassFile.FieldType.object "HomesQueue$Step"))], kind := 6, implClass := "HomesQueue", implName := "lambda$inTurn$0", implDesc := ({ parameters := [(Jvm.ClassFile.FieldType.array (Jvm.ClassFile.FieldType.object "HomesQueue$Step")), Jvm.ClassFile.FieldType.int, Jvm.ClassFile.FieldType.int], returnType := (Option.some Jvm.ClassFile.FieldType.int) } : Jvm.ClassFile.MethodDescriptor), implItf := false, inst := ({ parameters := [Jvm.ClassFile.FieldType.int, Jvm.ClassFile.FieldType.int], returnType := (Option.some Jvm.ClassFile.FieldType.int) } : Jvm.ClassFile.MethodDescriptor) } : Jvm.Lambda.Shape))
def hS11 : hL := (({ cls := "HomesQueue$Register", name := "<init>", desc := "(LHomesQueue;)V" } : Jvm.MethodName), (327 : Nat), (118 : Nat), ({ iface := "HomesQueue$Check", name := "is", sam := ({ parameters := [Jvm.ClassFile.FieldType.int], returnType := (Option.some Jvm.ClassFile.FieldType.boolean) } : Jvm.ClassFile.MethodDescriptor), captured := [(Jvm.ClassFile.FieldType.object "HomesQueue$Register")], kind := 5, implClass := "HomesQueue$Register", implName := "isTied", implDesc := ({ parameters := [Jvm.ClassFile.FieldType.int], returnType := (Option.some Jvm.ClassFile.FieldType.boolean) } : Jvm.ClassFile.MethodDescriptor), implItf := false, inst := ({ parameters := [Jvm.ClassFile.FieldType.int], returnType := (Option.some Jvm.ClassFile.FieldType.boolean) } : Jvm.ClassFile.MethodDescriptor) } : Jvm.Lambda.Shape))
def hS12 : hL := (({ cls := "HomesQueue", name := "sooner", desc := "(LHomesQueue$Check;)LHomesQueue$Step;" } : Jvm.MethodName), (1 : Nat), (36 : Nat), ({ iface := "HomesQueue$Step", name := "by", sam := ({ parameters := [Jvm.ClassFile.FieldType.int, Jvm.ClassFile.FieldType.int], returnType := (Option.some Jvm.ClassFile.FieldType.int) } : Jvm.ClassFile.MethodDescriptor), captured := [(Jvm.ClassFile.FieldType.object "HomesQueue$Check")], kind := 6, implClass := "HomesQueue", implName := "lambda$sooner$2", implDesc := ({ parameters := [(Jvm.ClassFile.FieldType.object "HomesQueue$Check"), Jvm.ClassFile.FieldType.int, Jvm.ClassFile.FieldType.int], returnType := (Option.some Jvm.ClassFile.FieldType.int) } : Jvm.ClassFile.MethodDescriptor), implItf := false, inst := ({ parameters := [Jvm.ClassFile.FieldType.int, Jvm.ClassFile.FieldType.int], returnType := (Option.some Jvm.ClassFile.FieldType.int) } : Jvm.ClassFile.MethodDescriptor) } : Jvm.Lambda.Shape))
def hS13 : hL := (({ cls := "HomesQueue$Register", name := "<init>", desc := "(LHomesQueue;)V" } : Jvm.MethodName), (339 : Nat), (123 : Nat), ({ iface := "HomesQueue$Check", name := "is", sam := ({ parameters := [Jvm.ClassFile.FieldType.int], returnType := (Option.some Jvm.ClassFile.FieldType.boolean) } : Jvm.ClassFile.MethodDescriptor), captured := [(Jvm.ClassFile.FieldType.object "HomesQueue$Register")], kind := 5, implClass := "HomesQueue$Register", implName := "isMoving", implDesc := ({ parameters := [Jvm.ClassFile.FieldType.int], returnType := (Option.some Jvm.ClassFile.FieldType.boolean) } : Jvm.ClassFile.MethodDescriptor), implItf := false, inst := ({ parameters := [Jvm.ClassFile.FieldType.int], returnType := (Option.some Jvm.ClassFile.FieldType.boolean) } : Jvm.ClassFile.MethodDescriptor) } : Jvm.Lambda.Shape))
def hS14 : hL := (({ cls := "HomesQueue", name := "many", desc := "(I)I" } : Jvm.MethodName), (119 : Nat), (216 : Nat), ({ iface := "HomesQueue$Number", name := "of", sam := ({ parameters := [Jvm.ClassFile.FieldType.int], returnType := (Option.some Jvm.ClassFile.FieldType.int) } : Jvm.ClassFile.MethodDescriptor), captured := [(Jvm.ClassFile.FieldType.object "HomesQueue")], kind := 5, implClass := "HomesQueue", implName := "lambda$many$7", implDesc := ({ parameters := [Jvm.ClassFile.FieldType.int], returnType := (Option.some Jvm.ClassFile.FieldType.int) } : Jvm.ClassFile.MethodDescriptor), implItf := false, inst := ({ parameters := [Jvm.ClassFile.FieldType.int], returnType := (Option.some Jvm.ClassFile.FieldType.int) } : Jvm.ClassFile.MethodDescriptor) } : Jvm.Lambda.Shape))
def hS15 : hL := (({ cls := "HomesQueue", name := "freeHomes", desc := "(LHomesQueue$Register;)I" } : Jvm.MethodName), (8 : Nat), (189 : Nat), ({ iface := "HomesQueue$Check", name := "is", sam := ({ parameters := [Jvm.ClassFile.FieldType.int], returnType := (Option.some Jvm.ClassFile.FieldType.boolean) } : Jvm.ClassFile.MethodDescriptor), captured := [(Jvm.ClassFile.FieldType.object "HomesQueue$Register")], kind := 6, implClass := "HomesQueue", implName := "lambda$freeHomes$3", implDesc := ({ parameters := [(Jvm.ClassFile.FieldType.object "HomesQueue$Register"), Jvm.ClassFile.FieldType.int], returnType := (Option.some Jvm.ClassFile.FieldType.boolean) } : Jvm.ClassFile.MethodDescriptor), implItf := false, inst := ({ parameters := [Jvm.ClassFile.FieldType.int], returnType := (Option.some Jvm.ClassFile.FieldType.boolean) } : Jvm.ClassFile.MethodDescriptor) } : Jvm.Lambda.Shape))
def hS16 : hL := (({ cls := "HomesQueue", name := "inQueue", desc := "(LHomesQueue$Register;)I" } : Jvm.MethodName), (8 : Nat), (196 : Nat), ({ iface := "HomesQueue$Check", name := "is", sam := ({ parameters := [Jvm.ClassFile.FieldType.int], returnType := (Option.some Jvm.ClassFile.FieldType.boolean) } : Jvm.ClassFile.MethodDescriptor), captured := [(Jvm.ClassFile.FieldType.object "HomesQueue$Register")], kind := 6, implClass := "HomesQueue", implName := "lambda$inQueue$4", implDesc := ({ parameters := [(Jvm.ClassFile.FieldType.object "HomesQueue$Register"), Jvm.ClassFile.FieldType.int], returnType := (Option.some Jvm.ClassFile.FieldType.boolean) } : Jvm.ClassFile.MethodDescriptor), implItf := false, inst := ({ parameters := [Jvm.ClassFile.FieldType.int], returnType := (Option.some Jvm.ClassFile.FieldType.boolean) } : Jvm.ClassFile.MethodDescriptor) } : Jvm.Lambda.Shape))
def hS17 : hL := (({ cls := "HomesQueue", name := "home", desc := "(II)I" } : Jvm.MethodName), (132 : Nat), (253 : Nat), ({ iface := "HomesQueue$Check", name := "is", sam := ({ parameters := [Jvm.ClassFile.FieldType.int], returnType := (Option.some Jvm.ClassFile.FieldType.boolean) } : Jvm.ClassFile.MethodDescriptor), captured := [(Jvm.ClassFile.FieldType.object "HomesQueue"), Jvm.ClassFile.FieldType.int], kind := 5, implClass := "HomesQueue", implName := "lambda$home$8", implDesc := ({ parameters := [Jvm.ClassFile.FieldType.int, Jvm.ClassFile.FieldType.int], returnType := (Option.some Jvm.ClassFile.FieldType.boolean) } : Jvm.ClassFile.MethodDescriptor), implItf := false, inst := ({ parameters := [Jvm.ClassFile.FieldType.int], returnType := (Option.some Jvm.ClassFile.FieldType.boolean) } : Jvm.ClassFile.MethodDescriptor) } : Jvm.Lambda.Shape))
def hS18 : hL := (({ cls := "HomesQueue", name := "home", desc := "(II)I" } : Jvm.MethodName), (153 : Nat), (256 : Nat), ({ iface := "HomesQueue$Check", name := "is", sam := ({ parameters := [Jvm.ClassFile.FieldType.int], returnType := (Option.some Jvm.ClassFile.FieldType.boolean) } : Jvm.ClassFile.MethodDescriptor), captured := [(Jvm.ClassFile.FieldType.object "HomesQueue"), Jvm.ClassFile.FieldType.int], kind := 5, implClass := "HomesQueue", implName := "lambda$home$9", implDesc := ({ parameters := [Jvm.ClassFile.FieldType.int, Jvm.ClassFile.FieldType.int], returnType := (Option.some Jvm.ClassFile.FieldType.boolean) } : Jvm.ClassFile.MethodDescriptor), implItf := false, inst := ({ parameters := [Jvm.ClassFile.FieldType.int], returnType := (Option.some Jvm.ClassFile.FieldType.boolean) } : Jvm.ClassFile.MethodDescriptor) } : Jvm.Lambda.Shape))
def hS19 : hL := (({ cls := "HomesQueue", name := "order", desc := "(II)I" } : Jvm.MethodName), (54 : Nat), (329 : Nat), ({ iface := "HomesQueue$Check", name := "is", sam := ({ parameters := [Jvm.ClassFile.FieldType.int], returnType := (Option.some Jvm.ClassFile.FieldType.boolean) } : Jvm.ClassFile.MethodDescriptor), captured := [(Jvm.ClassFile.FieldType.object "HomesQueue"), Jvm.ClassFile.FieldType.int, (Jvm.ClassFile.FieldType.array Jvm.ClassFile.FieldType.int)], kind := 5, implClass := "HomesQueue", implName := "lambda$order$10", implDesc := ({ parameters := [Jvm.ClassFile.FieldType.int, (Jvm.ClassFile.FieldType.array Jvm.ClassFile.FieldType.int), Jvm.ClassFile.FieldType.int], returnType := (Option.some Jvm.ClassFile.FieldType.boolean) } : Jvm.ClassFile.MethodDescriptor), implItf := false, inst := ({ parameters := [Jvm.ClassFile.FieldType.int], returnType := (Option.some Jvm.ClassFile.FieldType.boolean) } : Jvm.ClassFile.MethodDescriptor) } : Jvm.Lambda.Shape))
def hS20 : hL := (({ cls := "HomesQueue$Register", name := "firstFor", desc := "(ILHomesQueue$Check;)I" } : Jvm.MethodName), (13 : Nat), (274 : Nat), ({ iface := "HomesQueue$Step", name := "by", sam := ({ parameters := [Jvm.ClassFile.FieldType.int, Jvm.ClassFile.FieldType.int], returnType := (Option.some Jvm.ClassFile.FieldType.int) } : Jvm.ClassFile.MethodDescriptor), captured := [(Jvm.ClassFile.FieldType.object "HomesQueue$Register"), Jvm.ClassFile.FieldType.int], kind := 5, implClass := "HomesQueue$Register", implName := "lambda$firstFor$6", implDesc := ({ parameters := [Jvm.ClassFile.FieldType.int, Jvm.ClassFile.FieldType.int, Jvm.ClassFile.FieldType.int], returnType := (Option.some Jvm.ClassFile.FieldType.int) } : Jvm.ClassFile.MethodDescriptor), implItf := false, inst := ({ parameters := [Jvm.ClassFile.FieldType.int, Jvm.ClassFile.FieldType.int], returnType := (Option.some Jvm.ClassFile.FieldType.int) } : Jvm.ClassFile.MethodDescriptor) } : Jvm.Lambda.Shape))
def hS21 : hL := (({ cls := "HomesQueue", name := "ahead", desc := "(II)I" } : Jvm.MethodName), (44 : Nat), (344 : Nat), ({ iface := "HomesQueue$Check", name := "is", sam := ({ parameters := [Jvm.ClassFile.FieldType.int], returnType := (Option.some Jvm.ClassFile.FieldType.boolean) } : Jvm.ClassFile.MethodDescriptor), captured := [(Jvm.ClassFile.FieldType.object "HomesQueue"), Jvm.ClassFile.FieldType.int, Jvm.ClassFile.FieldType.int], kind := 5, implClass := "HomesQueue", implName := "lambda$ahead$11", implDesc := ({ parameters := [Jvm.ClassFile.FieldType.int, Jvm.ClassFile.FieldType.int, Jvm.ClassFile.FieldType.int], returnType := (Option.some Jvm.ClassFile.FieldType.boolean) } : Jvm.ClassFile.MethodDescriptor), implItf := false, inst := ({ parameters := [Jvm.ClassFile.FieldType.int], returnType := (Option.some Jvm.ClassFile.FieldType.boolean) } : Jvm.ClassFile.MethodDescriptor) } : Jvm.Lambda.Shape))
def hS22 : hL := (({ cls := "HomesQueue", name := "greatestChain", desc := "(LHomesQueue$Register;)I" } : Jvm.MethodName), (8 : Nat), (207 : Nat), ({ iface := "HomesQueue$Number", name := "of", sam := ({ parameters := [Jvm.ClassFile.FieldType.int], returnType := (Option.some Jvm.ClassFile.FieldType.int) } : Jvm.ClassFile.MethodDescriptor), captured := [(Jvm.ClassFile.FieldType.object "HomesQueue$Register")], kind := 6, implClass := "HomesQueue", implName := "lambda$greatestChain$6", implDesc := ({ parameters := [(Jvm.ClassFile.FieldType.object "HomesQueue$Register"), Jvm.ClassFile.FieldType.int], returnType := (Option.some Jvm.ClassFile.FieldType.int) } : Jvm.ClassFile.MethodDescriptor), implItf := false, inst := ({ parameters := [Jvm.ClassFile.FieldType.int], returnType := (Option.some Jvm.ClassFile.FieldType.int) } : Jvm.ClassFile.MethodDescriptor) } : Jvm.Lambda.Shape))
def hS23 : hL := (({ cls := "HomesQueue", name := "tally", desc := "(I)I" } : Jvm.MethodName), (78 : Nat), (382 : Nat), ({ iface := "HomesQueue$Check", name := "is", sam := ({ parameters := [Jvm.ClassFile.FieldType.int], returnType := (Option.some Jvm.ClassFile.FieldType.boolean) } : Jvm.ClassFile.MethodDescriptor), captured := [(Jvm.ClassFile.FieldType.object "java/util/ArrayList")], kind := 6, implClass := "HomesQueue", implName := "lambda$tally$12", implDesc := ({ parameters := [(Jvm.ClassFile.FieldType.object "java/util/ArrayList"), Jvm.ClassFile.FieldType.int], returnType := (Option.some Jvm.ClassFile.FieldType.boolean) } : Jvm.ClassFile.MethodDescriptor), implItf := false, inst := ({ parameters := [Jvm.ClassFile.FieldType.int], returnType := (Option.some Jvm.ClassFile.FieldType.boolean) } : Jvm.ClassFile.MethodDescriptor) } : Jvm.Lambda.Shape))
def hS24 : hL := (({ cls := "HomesQueue", name := "tally", desc := "(I)I" } : Jvm.MethodName), (100 : Nat), (388 : Nat), ({ iface := "HomesQueue$Check", name := "is", sam := ({ parameters := [Jvm.ClassFile.FieldType.int], returnType := (Option.some Jvm.ClassFile.FieldType.boolean) } : Jvm.ClassFile.MethodDescriptor), captured := [(Jvm.ClassFile.FieldType.object "java/util/ArrayList")], kind := 6, implClass := "HomesQueue", implName := "lambda$tally$13", implDesc := ({ parameters := [(Jvm.ClassFile.FieldType.object "java/util/ArrayList"), Jvm.ClassFile.FieldType.int], returnType := (Option.some Jvm.ClassFile.FieldType.boolean) } : Jvm.ClassFile.MethodDescriptor), implItf := false, inst := ({ parameters := [Jvm.ClassFile.FieldType.int], returnType := (Option.some Jvm.ClassFile.FieldType.boolean) } : Jvm.ClassFile.MethodDescriptor) } : Jvm.Lambda.Shape))
def hS25 : hL := (({ cls := "HomesQueue", name := "passedBy", desc := "(LHomesQueue$Register;)I" } : Jvm.MethodName), (8 : Nat), (197 : Nat), ({ iface := "HomesQueue$Number", name := "of", sam := ({ parameters := [Jvm.ClassFile.FieldType.int], returnType := (Option.some Jvm.ClassFile.FieldType.int) } : Jvm.ClassFile.MethodDescriptor), captured := [(Jvm.ClassFile.FieldType.object "HomesQueue$Register")], kind := 6, implClass := "HomesQueue", implName := "lambda$passedBy$5", implDesc := ({ parameters := [(Jvm.ClassFile.FieldType.object "HomesQueue$Register"), Jvm.ClassFile.FieldType.int], returnType := (Option.some Jvm.ClassFile.FieldType.int) } : Jvm.ClassFile.MethodDescriptor), implItf := false, inst := ({ parameters := [Jvm.ClassFile.FieldType.int], returnType := (Option.some Jvm.ClassFile.FieldType.int) } : Jvm.ClassFile.MethodDescriptor) } : Jvm.Lambda.Shape))
def hS26 : hL := (({ cls := "HomesQueue", name := "lack", desc := "(I)I" } : Jvm.MethodName), (35 : Nat), (392 : Nat), ({ iface := "HomesQueue$Check", name := "is", sam := ({ parameters := [Jvm.ClassFile.FieldType.int], returnType := (Option.some Jvm.ClassFile.FieldType.boolean) } : Jvm.ClassFile.MethodDescriptor), captured := [(Jvm.ClassFile.FieldType.object "HomesQueue"), Jvm.ClassFile.FieldType.int], kind := 5, implClass := "HomesQueue", implName := "lambda$lack$14", implDesc := ({ parameters := [Jvm.ClassFile.FieldType.int, Jvm.ClassFile.FieldType.int], returnType := (Option.some Jvm.ClassFile.FieldType.boolean) } : Jvm.ClassFile.MethodDescriptor), implItf := false, inst := ({ parameters := [Jvm.ClassFile.FieldType.int], returnType := (Option.some Jvm.ClassFile.FieldType.boolean) } : Jvm.ClassFile.MethodDescriptor) } : Jvm.Lambda.Shape))
def hS27 : hL := (({ cls := "HomesQueue", name := "lack", desc := "(I)I" } : Jvm.MethodName), (52 : Nat), (393 : Nat), ({ iface := "HomesQueue$Check", name := "is", sam := ({ parameters := [Jvm.ClassFile.FieldType.int], returnType := (Option.some Jvm.ClassFile.FieldType.boolean) } : Jvm.ClassFile.MethodDescriptor), captured := [(Jvm.ClassFile.FieldType.object "HomesQueue"), Jvm.ClassFile.FieldType.int], kind := 5, implClass := "HomesQueue", implName := "lambda$lack$15", implDesc := ({ parameters := [Jvm.ClassFile.FieldType.int, Jvm.ClassFile.FieldType.int], returnType := (Option.some Jvm.ClassFile.FieldType.boolean) } : Jvm.ClassFile.MethodDescriptor), implItf := false, inst := ({ parameters := [Jvm.ClassFile.FieldType.int], returnType := (Option.some Jvm.ClassFile.FieldType.boolean) } : Jvm.ClassFile.MethodDescriptor) } : Jvm.Lambda.Shape))
def hS28 : hL := (({ cls := "HomesQueue", name := "tip", desc := "(I)I" } : Jvm.MethodName), (24 : Nat), (417 : Nat), ({ iface := "HomesQueue$Check", name := "is", sam := ({ parameters := [Jvm.ClassFile.FieldType.int], returnType := (Option.some Jvm.ClassFile.FieldType.boolean) } : Jvm.ClassFile.MethodDescriptor), captured := [(Jvm.ClassFile.FieldType.object "HomesQueue"), Jvm.ClassFile.FieldType.int], kind := 5, implClass := "HomesQueue", implName := "lambda$tip$17", implDesc := ({ parameters := [Jvm.ClassFile.FieldType.int, Jvm.ClassFile.FieldType.int], returnType := (Option.some Jvm.ClassFile.FieldType.boolean) } : Jvm.ClassFile.MethodDescriptor), implItf := false, inst := ({ parameters := [Jvm.ClassFile.FieldType.int], returnType := (Option.some Jvm.ClassFile.FieldType.boolean) } : Jvm.ClassFile.MethodDescriptor) } : Jvm.Lambda.Shape))
def hS29 : hL := (({ cls := "HomesQueue", name := "tip", desc := "(I)I" } : Jvm.MethodName), (47 : Nat), (418 : Nat), ({ iface := "HomesQueue$Number", name := "of", sam := ({ parameters := [Jvm.ClassFile.FieldType.int], returnType := (Option.some Jvm.ClassFile.FieldType.int) } : Jvm.ClassFile.MethodDescriptor), captured := [(Jvm.ClassFile.FieldType.object "HomesQueue"), Jvm.ClassFile.FieldType.int], kind := 5, implClass := "HomesQueue", implName := "lambda$tip$18", implDesc := ({ parameters := [Jvm.ClassFile.FieldType.int, Jvm.ClassFile.FieldType.int], returnType := (Option.some Jvm.ClassFile.FieldType.int) } : Jvm.ClassFile.MethodDescriptor), implItf := false, inst := ({ parameters := [Jvm.ClassFile.FieldType.int], returnType := (Option.some Jvm.ClassFile.FieldType.int) } : Jvm.ClassFile.MethodDescriptor) } : Jvm.Lambda.Shape))
def hS30 : hL := (({ cls := "HomesQueue", name := "aheadOf", desc := "(II)I" } : Jvm.MethodName), (10 : Nat), (416 : Nat), ({ iface := "HomesQueue$Check", name := "is", sam := ({ parameters := [Jvm.ClassFile.FieldType.int], returnType := (Option.some Jvm.ClassFile.FieldType.boolean) } : Jvm.ClassFile.MethodDescriptor), captured := [(Jvm.ClassFile.FieldType.object "HomesQueue"), Jvm.ClassFile.FieldType.int, Jvm.ClassFile.FieldType.int], kind := 5, implClass := "HomesQueue", implName := "lambda$aheadOf$16", implDesc := ({ parameters := [Jvm.ClassFile.FieldType.int, Jvm.ClassFile.FieldType.int, Jvm.ClassFile.FieldType.int], returnType := (Option.some Jvm.ClassFile.FieldType.boolean) } : Jvm.ClassFile.MethodDescriptor), implItf := false, inst := ({ parameters := [Jvm.ClassFile.FieldType.int], returnType := (Option.some Jvm.ClassFile.FieldType.boolean) } : Jvm.ClassFile.MethodDescriptor) } : Jvm.Lambda.Shape))
def hS31 : hL := (({ cls := "HomesQueue", name := "tip", desc := "(I)I" } : Jvm.MethodName), (60 : Nat), (424 : Nat), ({ iface := "HomesQueue$Number", name := "of", sam := ({ parameters := [Jvm.ClassFile.FieldType.int], returnType := (Option.some Jvm.ClassFile.FieldType.int) } : Jvm.ClassFile.MethodDescriptor), captured := [(Jvm.ClassFile.FieldType.object "HomesQueue"), Jvm.ClassFile.FieldType.int], kind := 5, implClass := "HomesQueue", implName := "lambda$tip$19", implDesc := ({ parameters := [Jvm.ClassFile.FieldType.int, Jvm.ClassFile.FieldType.int], returnType := (Option.some Jvm.ClassFile.FieldType.int) } : Jvm.ClassFile.MethodDescriptor), implItf := false, inst := ({ parameters := [Jvm.ClassFile.FieldType.int], returnType := (Option.some Jvm.ClassFile.FieldType.int) } : Jvm.ClassFile.MethodDescriptor) } : Jvm.Lambda.Shape))
def hS32 : hL := (({ cls := "HomesQueue", name := "top", desc := "(I)I" } : Jvm.MethodName), (28 : Nat), (438 : Nat), ({ iface := "HomesQueue$Check", name := "is", sam := ({ parameters := [Jvm.ClassFile.FieldType.int], returnType := (Option.some Jvm.ClassFile.FieldType.boolean) } : Jvm.ClassFile.MethodDescriptor), captured := [(Jvm.ClassFile.FieldType.object "HomesQueue"), Jvm.ClassFile.FieldType.int], kind := 5, implClass := "HomesQueue", implName := "lambda$top$20", implDesc := ({ parameters := [Jvm.ClassFile.FieldType.int, Jvm.ClassFile.FieldType.int], returnType := (Option.some Jvm.ClassFile.FieldType.boolean) } : Jvm.ClassFile.MethodDescriptor), implItf := false, inst := ({ parameters := [Jvm.ClassFile.FieldType.int], returnType := (Option.some Jvm.ClassFile.FieldType.boolean) } : Jvm.ClassFile.MethodDescriptor) } : Jvm.Lambda.Shape))
def hS33 : hL := (({ cls := "HomesQueue", name := "lot", desc := "(II)I" } : Jvm.MethodName), (47 : Nat), (447 : Nat), ({ iface := "HomesQueue$Number", name := "of", sam := ({ parameters := [Jvm.ClassFile.FieldType.int], returnType := (Option.some Jvm.ClassFile.FieldType.int) } : Jvm.ClassFile.MethodDescriptor), captured := [(Jvm.ClassFile.FieldType.object "HomesQueue"), Jvm.ClassFile.FieldType.int], kind := 5, implClass := "HomesQueue", implName := "lambda$lot$21", implDesc := ({ parameters := [Jvm.ClassFile.FieldType.int, Jvm.ClassFile.FieldType.int], returnType := (Option.some Jvm.ClassFile.FieldType.int) } : Jvm.ClassFile.MethodDescriptor), implItf := false, inst := ({ parameters := [Jvm.ClassFile.FieldType.int], returnType := (Option.some Jvm.ClassFile.FieldType.int) } : Jvm.ClassFile.MethodDescriptor) } : Jvm.Lambda.Shape))
def hS34 : hL := (({ cls := "HomesQueue", name := "fits", desc := "(II)I" } : Jvm.MethodName), (48 : Nat), (457 : Nat), ({ iface := "HomesQueue$Number", name := "of", sam := ({ parameters := [Jvm.ClassFile.FieldType.int], returnType := (Option.some Jvm.ClassFile.FieldType.int) } : Jvm.ClassFile.MethodDescriptor), captured := [(Jvm.ClassFile.FieldType.object "HomesQueue"), Jvm.ClassFile.FieldType.int, Jvm.ClassFile.FieldType.int], kind := 5, implClass := "HomesQueue", implName := "lambda$fits$22", implDesc := ({ parameters := [Jvm.ClassFile.FieldType.int, Jvm.ClassFile.FieldType.int, Jvm.ClassFile.FieldType.int], returnType := (Option.some Jvm.ClassFile.FieldType.int) } : Jvm.ClassFile.MethodDescriptor), implItf := false, inst := ({ parameters := [Jvm.ClassFile.FieldType.int], returnType := (Option.some Jvm.ClassFile.FieldType.int) } : Jvm.ClassFile.MethodDescriptor) } : Jvm.Lambda.Shape))
def hS35 : hL := (({ cls := "HomesQueue", name := "ward", desc := "(Z)I" } : Jvm.MethodName), (3 : Nat), (462 : Nat), ({ iface := "HomesQueue$Check", name := "is", sam := ({ parameters := [Jvm.ClassFile.FieldType.int], returnType := (Option.some Jvm.ClassFile.FieldType.boolean) } : Jvm.ClassFile.MethodDescriptor), captured := [(Jvm.ClassFile.FieldType.object "HomesQueue")], kind := 5, implClass := "HomesQueue", implName := "lambda$ward$26", implDesc := ({ parameters := [Jvm.ClassFile.FieldType.int], returnType := (Option.some Jvm.ClassFile.FieldType.boolean) } : Jvm.ClassFile.MethodDescriptor), implItf := false, inst := ({ parameters := [Jvm.ClassFile.FieldType.int], returnType := (Option.some Jvm.ClassFile.FieldType.boolean) } : Jvm.ClassFile.MethodDescriptor) } : Jvm.Lambda.Shape))
def hS36 : hL := (({ cls := "HomesQueue", name := "lambda$ward$26", desc := "(I)Z" } : Jvm.MethodName), (9 : Nat), (621 : Nat), ({ iface := "HomesQueue$Check", name := "is", sam := ({ parameters := [Jvm.ClassFile.FieldType.int], returnType := (Option.some Jvm.ClassFile.FieldType.boolean) } : Jvm.ClassFile.MethodDescriptor), captured := [(Jvm.ClassFile.FieldType.object "HomesQueue"), Jvm.ClassFile.FieldType.int], kind := 5, implClass := "HomesQueue", implName := "lambda$ward$25", implDesc := ({ parameters := [Jvm.ClassFile.FieldType.int, Jvm.ClassFile.FieldType.int], returnType := (Option.some Jvm.ClassFile.FieldType.boolean) } : Jvm.ClassFile.MethodDescriptor), implItf := false, inst := ({ parameters := [Jvm.ClassFile.FieldType.int], returnType := (Option.some Jvm.ClassFile.FieldType.boolean) } : Jvm.ClassFile.MethodDescriptor) } : Jvm.Lambda.Shape))
def hS37 : hL := (({ cls := "HomesQueue", name := "ward", desc := "(Z)I" } : Jvm.MethodName), (9 : Nat), (465 : Nat), ({ iface := "HomesQueue$Number", name := "of", sam := ({ parameters := [Jvm.ClassFile.FieldType.int], returnType := (Option.some Jvm.ClassFile.FieldType.int) } : Jvm.ClassFile.MethodDescriptor), captured := [(Jvm.ClassFile.FieldType.object "HomesQueue")], kind := 5, implClass := "HomesQueue", implName := "lambda$ward$27", implDesc := ({ parameters := [Jvm.ClassFile.FieldType.int], returnType := (Option.some Jvm.ClassFile.FieldType.int) } : Jvm.ClassFile.MethodDescriptor), implItf := false, inst := ({ parameters := [Jvm.ClassFile.FieldType.int], returnType := (Option.some Jvm.ClassFile.FieldType.int) } : Jvm.ClassFile.MethodDescriptor) } : Jvm.Lambda.Shape))
def hS38 : hL := (({ cls := "HomesQueue", name := "muchOf", desc := "(I)I" } : Jvm.MethodName), (9 : Nat), (460 : Nat), ({ iface := "HomesQueue$Check", name := "is", sam := ({ parameters := [Jvm.ClassFile.FieldType.int], returnType := (Option.some Jvm.ClassFile.FieldType.boolean) } : Jvm.ClassFile.MethodDescriptor), captured := [(Jvm.ClassFile.FieldType.object "HomesQueue"), Jvm.ClassFile.FieldType.int], kind := 5, implClass := "HomesQueue", implName := "lambda$muchOf$23", implDesc := ({ parameters := [Jvm.ClassFile.FieldType.int, Jvm.ClassFile.FieldType.int], returnType := (Option.some Jvm.ClassFile.FieldType.boolean) } : Jvm.ClassFile.MethodDescriptor), implItf := false, inst := ({ parameters := [Jvm.ClassFile.FieldType.int], returnType := (Option.some Jvm.ClassFile.FieldType.boolean) } : Jvm.ClassFile.MethodDescriptor) } : Jvm.Lambda.Shape))
def hS39 : hL := (({ cls := "HomesQueue", name := "muchOf", desc := "(I)I" } : Jvm.MethodName), (26 : Nat), (461 : Nat), ({ iface := "HomesQueue$Check", name := "is", sam := ({ parameters := [Jvm.ClassFile.FieldType.int], returnType := (Option.some Jvm.ClassFile.FieldType.boolean) } : Jvm.ClassFile.MethodDescriptor), captured := [(Jvm.ClassFile.FieldType.object "HomesQueue"), Jvm.ClassFile.FieldType.int], kind := 5, implClass := "HomesQueue", implName := "lambda$muchOf$24", implDesc := ({ parameters := [Jvm.ClassFile.FieldType.int, Jvm.ClassFile.FieldType.int], returnType := (Option.some Jvm.ClassFile.FieldType.boolean) } : Jvm.ClassFile.MethodDescriptor), implItf := false, inst := ({ parameters := [Jvm.ClassFile.FieldType.int], returnType := (Option.some Jvm.ClassFile.FieldType.boolean) } : Jvm.ClassFile.MethodDescriptor) } : Jvm.Lambda.Shape))
def hS40 : hL := (({ cls := "HomesQueue", name := "queue", desc := "(I)I" } : Jvm.MethodName), (42 : Nat), (491 : Nat), ({ iface := "HomesQueue$Check", name := "is", sam := ({ parameters := [Jvm.ClassFile.FieldType.int], returnType := (Option.some Jvm.ClassFile.FieldType.boolean) } : Jvm.ClassFile.MethodDescriptor), captured := [(Jvm.ClassFile.FieldType.object "HomesQueue"), (Jvm.ClassFile.FieldType.array Jvm.ClassFile.FieldType.int)], kind := 5, implClass := "HomesQueue", implName := "lambda$queue$28", implDesc := ({ parameters := [(Jvm.ClassFile.FieldType.array Jvm.ClassFile.FieldType.int), Jvm.ClassFile.FieldType.int], returnType := (Option.some Jvm.ClassFile.FieldType.boolean) } : Jvm.ClassFile.MethodDescriptor), implItf := false, inst := ({ parameters := [Jvm.ClassFile.FieldType.int], returnType := (Option.some Jvm.ClassFile.FieldType.boolean) } : Jvm.ClassFile.MethodDescriptor) } : Jvm.Lambda.Shape))
def hS41 : hL := (({ cls := "HomesQueue", name := "trades", desc := "(I)I" } : Jvm.MethodName), (48 : Nat), (513 : Nat), ({ iface := "HomesQueue$Check", name := "is", sam := ({ parameters := [Jvm.ClassFile.FieldType.int], returnType := (Option.some Jvm.ClassFile.FieldType.boolean) } : Jvm.ClassFile.MethodDescriptor), captured := [(Jvm.ClassFile.FieldType.object "HomesQueue"), (Jvm.ClassFile.FieldType.object "HomesQueue$Trading")], kind := 5, implClass := "HomesQueue", implName := "lambda$trades$29", implDesc := ({ parameters := [(Jvm.ClassFile.FieldType.object "HomesQueue$Trading"), Jvm.ClassFile.FieldType.int], returnType := (Option.some Jvm.ClassFile.FieldType.boolean) } : Jvm.ClassFile.MethodDescriptor), implItf := false, inst := ({ parameters := [Jvm.ClassFile.FieldType.int], returnType := (Option.some Jvm.ClassFile.FieldType.boolean) } : Jvm.ClassFile.MethodDescriptor) } : Jvm.Lambda.Shape))
def hSites : List hL := [hS0, hS1, hS2, hS3, hS4, hS5, hS6, hS7, hS8, hS9, hS10, hS11, hS12, hS13, hS14, hS15, hS16, hS17, hS18, hS19, hS20, hS21, hS22, hS23, hS24, hS25, hS26, hS27, hS28, hS29, hS30, hS31, hS32, hS33, hS34, hS35, hS36, hS37, hS38, hS39, hS40, hS41]
theorem hS_check : ∀ k, k < 42 → lmI k = 5 → (hSites[k]?).map (fun q => q.2.2.2.iface) = some "HomesQueue$Check" := by decide +kernel
theorem hS_step : ∀ k, k < 42 → lmI k = 6 → (hSites[k]?).map (fun q => q.2.2.2.iface) = some "HomesQueue$Step" := by decide +kernel
theorem cast_arr {G : hG} {U : State} (hN : NK U) (hK : va_K G.1 hCl (hTy G) U) : ∀ (t : Nat) (y : ClassId × FieldType), t < 9 → (hTy G)[t]? = some y → ∃ C : String, U.vm.findClass C = some y.1 ∧ va_Nw (.castable C "java/lang/Object") U := by
  intro t y ht hy
  have hR := (hK.2 t y hy).2
  match t, hy with
  | 0, hy => cases hy; exact ⟨"[I", hR, hN _ q2686 rfl⟩
  | 1, hy => cases hy; exact ⟨"[J", hR, hN _ q2691 rfl⟩
  | 2, hy => cases hy; exact ⟨"[B", hR, hN _ q2689 rfl⟩
  | 3, hy => cases hy; exact ⟨"[Z", hR, hN _ q2687 rfl⟩
  | 4, hy => cases hy; obtain ⟨kA, comp, -, -, -, h4⟩ := hR; exact ⟨"[Ljava/lang/Object;", h4, hN _ q2683 rfl⟩
  | 5, hy => cases hy; obtain ⟨kA, comp, -, -, -, h4⟩ := hR; exact ⟨"[LHomesQueue$Check;", h4, hN _ q2684 rfl⟩
  | 6, hy => cases hy; obtain ⟨kA, comp, -, -, -, h4⟩ := hR; exact ⟨"[LHomesQueue$Step;", h4, hN _ q2685 rfl⟩
  | 7, hy => cases hy; exact ⟨"[[I", hR, hN _ q2690 rfl⟩
  | 8, hy => cases hy; obtain ⟨kA, comp, -, -, -, h4⟩ := hR; exact ⟨"[Ljava/lang/String;", h4, hN _ q2688 rfl⟩
  | t + 9, hy => omega
theorem cast_obj {U : State} (hN : NK U) : ∀ (ci : Nat) (r : vw_C), ci < 16 → hCl[ci]? = some r → va_Nw (.castable r.1 "java/lang/Object") U := by
  intro ci r hc hr
  match ci, hr with
  | 0, hr => cases hr; exact hN _ q2664 rfl
  | 1, hr => cases hr; exact hN _ q2666 rfl
  | 2, hr => cases hr; exact hN _ q2668 rfl
  | 3, hr => cases hr; exact hN _ q2669 rfl
  | 4, hr => cases hr; exact hN _ q2670 rfl
  | 5, hr => cases hr; exact hN _ q2673 rfl
  | 6, hr => cases hr; exact hN _ q2674 rfl
  | 7, hr => cases hr; exact hN _ q2675 rfl
  | 8, hr => cases hr; exact hN _ q2676 rfl
  | 9, hr => cases hr; exact hN _ q2677 rfl
  | 10, hr => cases hr; exact hN _ q2678 rfl
  | 11, hr => cases hr; exact hN _ q2665 rfl
  | 12, hr => cases hr; exact hN _ q2667 rfl
  | 13, hr => cases hr; exact hN _ q2663 rfl
  | 14, hr => cases hr; exact hN _ q2671 rfl
  | 15, hr => cases hr; exact hN _ q2672 rfl
  | t + 16, hr => omega
/-! assignability: what may lie in an array of references -/
section BA
variable {p : Program} {l : Launch} {e : Env} {R : Room} {s : State} {m : MethodId} {args : Array Value} {below : List Frame} {meth : Method} {c : Code} {H H0 : Heap} {locs : List Loc} {cells slots : Nat} {Q : State → Prop} {cc : ByteArray} {nL pc : Nat} {ls : Array Slot} {rest : List Value} {G : hG} {zs : Nat → Nat} {A : Nat → Prop} {h h1 : AH} {nx : Nat} {own ref C host : String} {T : u_T} {N ci index a k : Nat}
theorem vp_cell_vm (cA : ClassId) (x : vp_A) : (vp_cell cA x).vm = .none := by
  obtain ⟨n, f | f | f | f | f⟩ := x <;> rfl
theorem vp_cell_cls (cA : ClassId) (x : vp_A) : (vp_cell cA x).cls = cA := by
  obtain ⟨n, f | f | f | f | f⟩ := x <;> rfl
/-- the entry's cell: its class -/
theorem bCell {v : Nat} {ev : hE} (hB : BI G A H0 h nx H locs) (he : h v = some ev) : ∃ cell : Cell, H[v]? = some cell ∧ okV cell.vm := by
  have h0 := hB.1 v ev he
  rcases ev with x | o | k
  · obtain ⟨y, h1, ⟨c1, h2, hl⟩, h3⟩ := h0
    exact ⟨c1, h2, hl.2.2⟩
  · obtain ⟨r, h1, cell, q1, q2, q3, q4⟩ := h0
    exact ⟨cell, q1, q3.1⟩
  · exact ⟨_, h0, okV.no rfl⟩
/-- what is stored in an array of kind t, with its component class -/
theorem bAsg {v t : Nat} (hS : SK G zs hSites A s) (hB : BI G A H0 h nx H locs) (hst : stO t (h v) = true) {y : ClassId × FieldType} (ht : (hTy G)[t]? = some y) :
    ∃ (cv : Cell) (kA kv kc : Class) (comp : ClassId), H[v]? = some cv ∧ okV cv.vm ∧ s.vm.classes[y.1]? = some kA ∧ kA.kind = .array comp y.2 ∧ y.2.isReference = true ∧ s.vm.classes[comp]? = some kc ∧ s.vm.classes[cv.cls]? = some kv ∧ s.vm.assignable cv.cls comp = true := by
  cases hev : h v with
  | none => rw [hev] at hst; cases hst
  | some ev =>
    rw [hev] at hst
    obtain ⟨hK, hN, hZ, hL, hF, hA, -, -⟩ := hS
    have h0 := hB.1 v ev hev
    rcases ev with x | o | kk
    · have hst := of_decide_eq_true hst
      obtain ⟨y2, h2, ⟨c1, h3, hl⟩, h4⟩ := h0
      have hvm : okV c1.vm := hl.2.2
      have hcls : c1.cls = y2.1 := hl.1.trans (vp_cell_cls y2.1 x.2)
      rcases hst with ⟨rfl, hx⟩ | ⟨rfl, hx⟩
      · cases ht
        obtain ⟨kA, comp, r1, r2, r3, r4⟩ := (hK.2 4 _ rfl).2
        obtain ⟨CN, f1, f2⟩ := cast_arr hN hK x.1 y2 hx h2
        obtain ⟨kv, hkv, -⟩ := Vm.findClass_spec f1
        obtain ⟨kc, hkc, -⟩ := Vm.findClass_spec r3
        exact ⟨_, kA, kv, kc, comp, h3, hvm, r1, r2, rfl, hkc, by rw [hcls]; exact hkv, by rw [hcls]; exact vb_asgC f2 _ _ r3 f1⟩
      · cases ht
        rw [hx] at h2
        cases h2
        obtain ⟨kA, r1, r2⟩ := hA
        have f1 : s.vm.findClass "[I" = some (G.2.1 0) := (hK.2 0 _ rfl).2
        obtain ⟨kv, hkv, -⟩ := Vm.findClass_spec f1
        exact ⟨_, kA, kv, kv, G.2.1 0, h3, hvm, r1, r2, rfl, hkv, by rw [hcls]; exact hkv, by rw [hcls]; exact va_asg _ _⟩
    · have hst := of_decide_eq_true hst
      obtain ⟨r, h2, cell, q1, q2, q3, q4⟩ := h0
      have hat := (hK.1 o.1 r h2).2
      obtain ⟨kv, hkv, -⟩ := Vm.findClass_spec hat.1
      rcases hst with ⟨rfl, ho⟩ | ⟨rfl, ho⟩
      · cases ht
        obtain ⟨kA, comp, r1, r2, r3, r4⟩ := (hK.2 4 _ rfl).2
        obtain ⟨kc, hkc, -⟩ := Vm.findClass_spec r3
        exact ⟨cell, kA, kv, kc, comp, q1, q3.1, r1, r2, rfl, hkc, by rw [q2]; exact hkv, by rw [q2]; exact vb_asgC (cast_obj hN o.1 r ho h2) _ _ r3 hat.1⟩
      · cases ht
        rw [ho] at h2 hat q2
        cases h2
        obtain ⟨kA, comp, r1, r2, r3, r4⟩ := (hK.2 8 _ rfl).2
        cases hat.1.symm.trans r3
        exact ⟨cell, kA, kv, kv, _, q1, q3.1, r1, r2, rfl, by rw [ho] at hkv; exact hkv, by rw [q2]; rw [ho] at hkv; exact hkv, by rw [q2]; exact va_asg _ _⟩
    · have hst := of_decide_eq_true hst
      obtain ⟨hk, ht2, hlm⟩ := hst
      have key : ∀ nm : String, (hSites[kk.1]?).map (fun q => q.2.2.2.iface) = some nm → ∀ comp : ClassId, s.vm.findClass nm = some comp → s.vm.assignable (G.2.2 kk.1) comp = true ∧ ∃ kv, s.vm.classes[G.2.2 kk.1]? = some kv := by
        intro nm hnm comp hcomp
        obtain ⟨q, hq, hq2⟩ := Option.map_eq_some_iff.mp hnm
        obtain ⟨m0, kc0, cf0, i0, p0, l0, -, -, -, -, -, -, hmade, hcall, -⟩ := State.lambdaAt?_spec (hL kk.1 q hq)
        obtain ⟨i, hi, hasg, -⟩ := State.lambdaCallable_spec hcall
        rw [hq2] at hi
        cases hi.symm.trans hcomp
        obtain ⟨dk, k1, ok, tk, file, cf, object, iface, toy, lay, methods, target, found, hd', hk1, -⟩ := Lambda.isMade_spec hmade
        exact ⟨hasg, k1, hk1⟩
      rcases ht2 with rfl | rfl
      · cases ht
        obtain ⟨kA, comp, r1, r2, r3, r4⟩ := (hK.2 5 _ rfl).2
        obtain ⟨kc, hkc, -⟩ := Vm.findClass_spec r3
        obtain ⟨g1, kv, g2⟩ := key _ (hS_check kk.1 hk hlm) comp r3
        exact ⟨_, kA, kv, kc, comp, h0, okV.no rfl, r1, r2, rfl, hkc, g2, g1⟩
      · cases ht
        obtain ⟨kA, comp, r1, r2, r3, r4⟩ := (hK.2 6 _ rfl).2
        obtain ⟨kc, hkc, -⟩ := Vm.findClass_spec r3
        obtain ⟨g1, kv, g2⟩ := key _ (hS_step kk.1 hk hlm) comp r3
        exact ⟨_, kA, kv, kc, comp, h0, okV.no rfl, r1, r2, rfl, hkc, g2, g1⟩
theorem b_aast (S : CallFix p m c cc nL s args lw_all own) (hS : SK G zs hSites A s) (hB : BI G A H0 h nx H locs) (t : Nat) {y : ClassId × FieldType} (ht : (hTy G)[t]? = some y) {i : Int32} {v : Nat} (hst : stO t (h v) = true) (hw : sR h a t i (some v) = some h1) (hdg : decode cc pc = .ok (.aastore, 1)) (kk : ∀ (H1 : Heap) (locs1 : List Loc), BI G A H0 h1 nx H1 locs1 → W p l e R s m args below meth c H1 locs1 cells slots Q (F0 m (pc + 1) ls rest)) : W p l e R s m args below meth c H locs cells slots Q (F0 m pc ls (.ref v :: .int i :: .ref a :: rest)) := by
  obtain ⟨n, f, he, hi, rfl⟩ := sR_s hw
  have hlt : i.toNatClampNeg < n := Nat.not_le.mp fun q => hi (Or.inr q)
  have h0 : ¬ i < 0 := fun q => hi (Or.inl q)
  obtain ⟨cv, kA, kv, kc, comp, g1, g2, g3, g4, g5, g6, g7, g8⟩ := bAsg hS hB hst ht
  obtain ⟨c1, hc1, hl, -⟩ := bArr hB ht he
  refine W.aast S.1 S.2.1 hc1 (fun q => hl.2.2.ns q) hl.2.2.1 (by rw [hl.1]; exact g3) g4 g5 g6 ⟨h0, by rw [hl.2.1]; show _ < (arrV _ _ _).slots.size; rw [arrV_size]; exact hlt⟩ g1 (fun q => g2.ns q) g7 g8 rfl rfl hdg fun H1 e z oq => ?_
  refine kk H1 _ (hB.set he ⟨_, ht, ⟨_, e, (cLo.set hl _ _).trans ?_⟩, trivial⟩ z oq)
  rw [vp_cell_q, vp_cell_q, arrV_store]
  congr 1
  funext q
  by_cases hq : q = i.toNatClampNeg
  · subst hq
    simp [updV, va_up, va_rf]
  · simp [updV, va_up, hq]
theorem b_aastN (S : CallFix p m c cc nL s args lw_all own) (hK : va_K G.1 hCl (hTy G) s) (hB : BI G A H0 h nx H locs) (t : Nat) {cA : ClassId} {E : String} (ht : (hTy G)[t]? = some (cA, .object E)) {i : Int32} (hw : sR h a t i none = some h1) (hdg : decode cc pc = .ok (.aastore, 1)) (kk : ∀ (H1 : Heap) (locs1 : List Loc), BI G A H0 h1 nx H1 locs1 → W p l e R s m args below meth c H1 locs1 cells slots Q (F0 m (pc + 1) ls rest)) : W p l e R s m args below meth c H locs cells slots Q (F0 m pc ls (.null :: .int i :: .ref a :: rest)) := by
  obtain ⟨n, f, he, hi, rfl⟩ := sR_s hw
  obtain ⟨c1, hc1, hl, -⟩ := bArr hB ht he
  refine va_WaastN (C := E) S.1 S.2.1 hc1 (hl.arr ((hK.2 t _ ht).1 n (fun j => va_rf (f j)))) hl.2.2.1 (by rw [hl.2.1]; show ¬ (i < 0 ∨ (arrV _ _ _).slots.size ≤ _); rw [arrV_size]; exact hi) rfl rfl hdg fun H1 e z oq => ?_
  refine kk H1 _ (hB.set he ⟨_, ht, ⟨_, e, (cLo.set hl _ _).trans ?_⟩, trivial⟩ z oq)
  rw [vp_cell_q, vp_cell_q, arrV_store]
  congr 1
  funext q
  by_cases hq : q = i.toNatClampNeg
  · subst hq
    simp [updV, va_up, va_rf]
  · simp [updV, va_up, hq]
/-! new cells -/
theorem b_new (S : CallFix p m c cc nL s args lw_all own) (hK : va_K G.1 hCl (hTy G) s) (hB : BI G A H0 h nx H locs) (hin : ∀ w ∈ u_ws C T N, w ∈ lw_all) (hc : hCl[ci]? = some (C, T, N)) (ty : Nat → FieldType) (hty : ∀ k, k < N → parseFieldDescriptor (T k).2.2.1 = some (ty k)) (hcl : (Cond.classLink own index C).before args s = true) (hinst : (Cond.instantiable C N).before args s = true) (hini : (Cond.initialized C).before args s = true) {fs : List Value} (hfs : ∀ j, j < N → defaultValue (ty j) = vp_V fs j) (hcells : cells + 1 ≤ R.cells) (hslots : slots + N ≤ R.slots) (hdg : decode cc pc = .ok (.new index, 3)) (kk : ∀ H1 : Heap, BI G A H0 (hu h nx (.inr (.inl (ci, fs)))) (nx + 1) H1 locs → W p l e R s m args below meth c H1 locs (cells + 1) (slots + N) Q (F0 m (pc + 3) ls (.ref nx :: rest))) : W p l e R s m args below meth c H locs cells slots Q (F0 m pc ls rest) := by
  have hKn := hK.1 ci _ hc
  refine W.newcK S.1 S.2.1 S.2.2.2.1 hcl hinst hini rfl hdg hcells hslots hKn.2.1 hB.2.1 fun H1 kC hkC e1 z1 o1 => ?_
  exact kk H1 (hB.push (hOb.of hc ((u_born ty S.2.2.2.2 hin hKn hkC e1 hty).to hfs)) z1 o1)
/-- a new array's length: not below 0, not too great -/
def nA (n : Int32) : Bool := decide (0 ≤ n.toInt ∧ n.toInt ≤ 1000000)
theorem nA_s {n : Int32} (q : nA n = true) : ¬ n < 0 ∧ n.toNatClampNeg ≤ 1000000 := by
  have h := of_decide_eq_true q
  refine ⟨fun q => ?_, ?_⟩
  · have := Int32.lt_iff_toInt_lt.mp q
    simp at this
    omega
  · show n.toInt.toNat ≤ 1000000
    omega
theorem b_newa (S : CallFix p m c cc nL s args lw_all own) (hK : va_K G.1 hCl (hTy G) s) (hB : BI G A H0 h nx H locs) {atype : ArrayType} (t : Nat) {cA : ClassId} {ty : FieldType} (hty : newarray.typeOf atype = ty) (ht : (hTy G)[t]? = some (cA, ty)) (hra : va_RA s cA ty → s.vm.findClass ("[" ++ ty.toString) = some cA) (harr : (Cond.arrayClass ty).before args s = true) {n : Int32} {a0 : Nat → (Nat → Int32) ⊕ (Nat → Int64) ⊕ (Nat → UInt32) ⊕ (Nat → UInt64) ⊕ (Nat → Option Nat)} (ha : ∀ cA : ClassId, vp_cell cA (n.toNatClampNeg, a0 0) = arrV cA n.toNatClampNeg (fun _ => defaultValue ty)) (hfit : hFit ty (n.toNatClampNeg, a0 0)) (hby : componentBytes ty ≤ 8) (hn : nA n = true) (hcells : cells + 1 ≤ R.cells) (hslots : slots + n.toNatClampNeg ≤ R.slots) (hdg : decode cc pc = .ok (.newarray atype, 2)) (kk : ∀ H1 : Heap, BI G A H0 (hu h nx (.inl (t, n.toNatClampNeg, a0 0))) (nx + 1) H1 locs → W p l e R s m args below meth c H1 locs (cells + 1) (slots + n.toNatClampNeg) Q (F0 m (pc + 2) ls (.ref nx :: rest))) : W p l e R s m args below meth c H locs cells slots Q (F0 m pc ls (.int n :: rest)) := by
  subst hty
  obtain ⟨hn0, hn1⟩ := nA_s hn
  refine va_newaK S.1 S.2.1 harr rfl hdg rfl hn0 rfl (by have := Nat.mul_le_mul hn1 hby; omega) hcells hslots hB.2.1 fun H1 cA1 e1 z1 o1 hAr hNm => ?_
  cases (hra (hK.2 t _ ht).2).symm.trans hNm
  exact kk H1 (hB.push ⟨_, ht, ⟨_, by rw [ha]; exact e1, cLo.rf (vp_cell_vm _ _)⟩, hfit⟩ z1 o1)
theorem b_anew (S : CallFix p m c cc nL s args lw_all own) (hK : va_K G.1 hCl (hTy G) s) (hB : BI G A H0 h nx H locs) (t : Nat) {cA : ClassId} (ht : (hTy G)[t]? = some (cA, .object C)) (hcl : (Cond.classLink own index C).before args s = true) (hover : (Cond.arrayOver (.object C)).before #[] s = true) {n : Int32} (hn : nA n = true) (hcells : cells + 1 ≤ R.cells) (hslots : slots + n.toNatClampNeg ≤ R.slots) (hdg : decode cc pc = .ok (.anewarray index, 3)) (kk : ∀ H1 : Heap, BI G A H0 (hu h nx (.inl (t, n.toNatClampNeg, .inr (.inr (.inr (.inr (fun _ => none))))))) (nx + 1) H1 locs → W p l e R s m args below meth c H1 locs (cells + 1) (slots + n.toNatClampNeg) Q (F0 m (pc + 3) ls (.ref nx :: rest))) : W p l e R s m args below meth c H locs cells slots Q (F0 m pc ls (.int n :: rest)) := by
  obtain ⟨hn0, hn1⟩ := nA_s hn
  have hnx := hB.2.1
  subst hnx
  refine W.anew S.1 S.2.1 S.2.2.2.1 hcl (va_AO.use hover) rfl hdg rfl hn0 (by omega) hcells hslots fun cA1 kA comp f1 f2 f3 f4 => ?_
  obtain ⟨kA2, comp2, r1, r2, r3, r4⟩ := (hK.2 t _ ht).2
  cases f1.symm.trans r4
  refine kk _ (hB.push ⟨_, ht, ⟨_, ?_, cLo.rf (vp_cell_vm _ _)⟩, trivial⟩ (by rw [Array.size_push]) (fun q hq => by rw [Array.getElem?_push, if_neg (Nat.ne_of_lt hq)]))
  show _ = some (arrV _ _ (fun _ => .null))
  rw [Array.getElem?_push_size, arrV_new]
theorem b_anewA (S : CallFix p m c cc nL s args lw_all own) (hK : va_K G.1 hCl (hTy G) s) (hB : BI G A H0 h nx H locs) (hcl : (Cond.classLink own index "[I").before args s = true) (hover : (Cond.arrayOver (.array .int)).before #[] s = true) {n : Int32} (hn : nA n = true) (hcells : cells + 1 ≤ R.cells) (hslots : slots + n.toNatClampNeg ≤ R.slots) (hdg : decode cc pc = .ok (.anewarray index, 3)) (kk : ∀ H1 : Heap, BI G A H0 (hu h nx (.inl (7, n.toNatClampNeg, .inr (.inr (.inr (.inr (fun _ => none))))))) (nx + 1) H1 locs → W p l e R s m args below meth c H1 locs (cells + 1) (slots + n.toNatClampNeg) Q (F0 m (pc + 3) ls (.ref nx :: rest))) : W p l e R s m args below meth c H locs cells slots Q (F0 m pc ls (.int n :: rest)) := by
  obtain ⟨hn0, hn1⟩ := nA_s hn
  have hnx := hB.2.1
  subst hnx
  refine W.anewA (t := .int) S.1 S.2.1 S.2.2.2.1 hcl hover rfl hdg rfl hn0 (by omega) hcells hslots fun cA1 kA comp f1 f2 f3 f4 => ?_
  have r4 : s.vm.findClass ("[" ++ (FieldType.array .int).toString) = some (G.2.1 7) := (hK.2 7 _ rfl).2
  cases f1.symm.trans r4
  refine kk _ (hB.push ⟨_, rfl, ⟨_, ?_, cLo.rf (vp_cell_vm _ _)⟩, trivial⟩ (by rw [Array.size_push]) (fun q hq => by rw [Array.getElem?_push, if_neg (Nat.ne_of_lt hq)]))
  show _ = some (arrV _ _ (fun _ => .null))
  rw [Array.getElem?_push_size, arrV_new]
end BA
/-! calls and returns over the map -/
section BC
variable {p : Program} {l : Launch} {e : Env} {R : Room} {s : State} {m : MethodId} {args : Array Value} {below : List Frame} {meth : Method} {c : Code} {H H0 : Heap} {locs : List Loc} {cells slots mc ms : Nat} {Q : State → Prop} {cc : ByteArray} {nL pc : Nat} {ls : Array Slot} {rest st0 : List Value} {G : hG} {zs : Nat → Nat} {L : List hL} {A : Nat → Prop} {h h' : AH} {nx : Nat} {own : String} {v : Value} {P : Prop} {aa : Array Value}
theorem bB_call {st₀ t T' : State} {Lo : List Loc} (hB : BI G A s.heap h nx H locs) (h0 : st₀.heap = H) (e1 : T'.heap = t.heap) (hL : ∀ q ∈ Lo, AA h nx q.base) (hq : ∀ (q : Nat) (e : hE), h' q = some e → hAt G q e t.heap) (hz : t.heap.size = nx + mc) (hd : ∀ (q : Nat) (e : hE), h' q = some e → AA h nx q) (hF : va_F (AA h nx) st₀ t) : BI G A s.heap h' (nx + mc) T'.heap (locs ++ Lo) := by
  obtain ⟨k1, k2⟩ := hF
  rw [h0] at k1 k2
  refine ⟨fun q e he => by rw [e1]; exact hq q e he, by rw [e1]; exact hz, fun q e he => hB.sub q (hd q e he), ⟨Nat.le_trans hB.2.2.2.1.1 (by rw [e1]; exact k1), fun q h1 h2 => ?_, fun q hq => ?_⟩, hB.2.2.2.2⟩
  · rw [e1, k2 q (Nat.lt_of_lt_of_le h1 hB.2.2.2.1.1) (fun z => h2 (hB.sub q z))]
    exact hB.2.2.2.1.2.1 q h1 h2
  · rcases List.mem_append.mp hq with h | h
    · exact hB.2.2.2.1.2.2 q h
    · exact hB.sub _ (hL q h)
theorem br_w (hr : va_Run p l e R s m args below meth c H locs cells slots mc ms (F0 m pc ls st0) rest (bQ G (some v) P h' (nx + mc) (AA h nx) aa) (AA h nx)) (hB : BI G A s.heap h nx H locs)
    (kk : ∀ (H1 : Heap) (locs1 : List Loc), P → BI G A s.heap h' (nx + mc) H1 locs1 → W p l e R s m args below meth c H1 locs1 (cells + mc) (slots + ms) Q (F0 m (pc + 3) ls (v :: rest))) : W p l e R s m args below meth c H locs cells slots Q (F0 m pc ls st0) := by
  intro T hT X
  obtain ⟨vv, st₀, t, T', Lo, h0, X', hL, e1, e2, ⟨hv, hp, hq, hz, hd, hF⟩, st⟩ := hr T hT X
  cases hv
  obtain ⟨t2, a1, b1⟩ := kk T'.heap (locs ++ Lo) hp (bB_call hB h0 e1 hL hq hz hd hF) T' rfl X'
  exact ⟨t2, st t2 a1, b1⟩
theorem br_v (hr : va_Run p l e R s m args below meth c H locs cells slots mc ms (F0 m pc ls st0) rest (bQ G none P h' (nx + mc) (AA h nx) aa) (AA h nx)) (hB : BI G A s.heap h nx H locs)
    (kk : ∀ (H1 : Heap) (locs1 : List Loc), P → BI G A s.heap h' (nx + mc) H1 locs1 → W p l e R s m args below meth c H1 locs1 (cells + mc) (slots + ms) Q (F0 m (pc + 3) ls rest)) : W p l e R s m args below meth c H locs cells slots Q (F0 m pc ls st0) := by
  intro T hT X
  obtain ⟨vv, st₀, t, T', Lo, h0, X', hL, e1, e2, ⟨hv, hp, hq, hz, hd, hF⟩, st⟩ := hr T hT X
  cases hv
  obtain ⟨t2, a1, b1⟩ := kk T'.heap (locs ++ Lo) hp (bB_call hB h0 e1 hL hq hz hd hF) T' rfl X'
  exact ⟨t2, st t2 a1, b1⟩
theorem br_r (hr : va_Run p l e R s m args below meth c H locs cells slots 0 0 (F0 m pc ls st0) rest (gR (some v) P aa) (fun _ => False)) (kk : P → W p l e R s m args below meth c H locs cells slots Q (F0 m (pc + 3) ls (v :: rest))) : W p l e R s m args below meth c H locs cells slots Q (F0 m pc ls st0) := by
  intro T hT X
  obtain ⟨vv, st₀, t, T', Lo, h0, X', hL, e1, e2, ⟨hv, hp', hh⟩, st⟩ := hr T hT X
  cases hv
  obtain ⟨t2, a1, b1⟩ := kk hp' T' (by rw [e1, hh, h0]) (Stand.forget X' (fun q h => (hL q h).elim))
  exact ⟨t2, st t2 a1, b1⟩
theorem br_rv (hr : va_Run p l e R s m args below meth c H locs cells slots 0 0 (F0 m pc ls st0) rest (gR none P aa) (fun _ => False)) (kk : P → W p l e R s m args below meth c H locs cells slots Q (F0 m (pc + 3) ls rest)) : W p l e R s m args below meth c H locs cells slots Q (F0 m pc ls st0) := by
  intro T hT X
  obtain ⟨vv, st₀, t, T', Lo, h0, X', hL, e1, e2, ⟨hv, hp', hh⟩, st⟩ := hr T hT X
  cases hv
  obtain ⟨t2, a1, b1⟩ := kk hp' T' (by rw [e1, hh, h0]) (Stand.forget X' (fun q h => (hL q h).elim))
  exact ⟨t2, st t2 a1, b1⟩
theorem br5_w (hr : va_Run5 p l e R s m args below meth c H locs cells slots mc ms (F0 m pc ls st0) rest (bQ G (some v) P h' (nx + mc) (AA h nx) aa) (AA h nx)) (hB : BI G A s.heap h nx H locs)
    (kk : ∀ (H1 : Heap) (locs1 : List Loc), P → BI G A s.heap h' (nx + mc) H1 locs1 → W p l e R s m args below meth c H1 locs1 (cells + mc) (slots + ms) Q (F0 m (pc + 5) ls (v :: rest))) : W p l e R s m args below meth c H locs cells slots Q (F0 m pc ls st0) := by
  intro T hT X
  obtain ⟨vv, st₀, t, T', Lo, h0, X', hL, e1, e2, ⟨hv, hp, hq, hz, hd, hF⟩, st⟩ := hr T hT X
  cases hv
  obtain ⟨t2, a1, b1⟩ := kk T'.heap (locs ++ Lo) hp (bB_call hB h0 e1 hL hq hz hd hF) T' rfl X'
  exact ⟨t2, st t2 a1, b1⟩
theorem br5_r (hr : va_Run5 p l e R s m args below meth c H locs cells slots 0 0 (F0 m pc ls st0) rest (gR (some v) P aa) (fun _ => False)) (kk : P → W p l e R s m args below meth c H locs cells slots Q (F0 m (pc + 5) ls (v :: rest))) : W p l e R s m args below meth c H locs cells slots Q (F0 m pc ls st0) := by
  intro T hT X
  obtain ⟨vv, st₀, t, T', Lo, h0, X', hL, e1, e2, ⟨hv, hp', hh⟩, st⟩ := hr T hT X
  cases hv
  obtain ⟨t2, a1, b1⟩ := kk hp' T' (by rw [e1, hh, h0]) (Stand.forget X' (fun q h => (hL q h).elim))
  exact ⟨t2, st t2 a1, b1⟩
/-! the cost so far and the cost to go -/
def aC {α : Type} (c s : Nat) (o : Option (α × AH × Nat × Nat)) : Option (α × AH × Nat × Nat) := o.bind fun q => some (q.1, q.2.1, c + q.2.2.1, s + q.2.2.2)
def TL {α : Type} (out o1 : α × AH × Nat × Nat) (ce sl : Nat) : Prop := o1.1 = out.1 ∧ o1.2.1 = out.2.1 ∧ ce + o1.2.2.1 = out.2.2.1 ∧ sl + o1.2.2.2 = out.2.2.2
theorem TL_0 {α : Type} {out : α × AH × Nat × Nat} : TL out out 0 0 := ⟨rfl, rfl, Nat.zero_add _, Nat.zero_add _⟩
theorem TL_c {α : Type} {out o1 : α × AH × Nat × Nat} {ce sl c s : Nat} {o : Option (α × AH × Nat × Nat)} (hT : TL out o1 ce sl) (hf : aC c s o = some o1) : ∃ o2, o = some o2 ∧ TL out o2 (ce + c) (sl + s) := by
  obtain ⟨q, h1, h2⟩ := ob_s hf
  cases h2
  obtain ⟨e1, e2, e3, e4⟩ := hT
  exact ⟨q, h1, e1, e2, by rw [← e3, Nat.add_assoc], by rw [← e4, Nat.add_assoc]⟩
theorem TL_m {α : Type} {out o1 : α × AH × Nat × Nat} {ce sl : Nat} (hT : TL out o1 ce sl) : ce ≤ out.2.2.1 ∧ sl ≤ out.2.2.2 := ⟨by have := hT.2.2.1; omega, by have := hT.2.2.2; omega⟩
theorem TL_e {α : Type} {out : α × AH × Nat × Nat} {v : α} {h : AH} {ce sl : Nat} {o1 : α × AH × Nat × Nat} (hT : TL out o1 ce sl) (hf : some (v, h, 0, 0) = some o1) : (v, h, ce, sl) = out := by
  cases hf
  obtain ⟨e1, e2, e3, e4⟩ := hT
  obtain ⟨a, b, c, d⟩ := out
  simp only at e1 e2 e3 e4
  subst e1; subst e2; subst e3; subst e4
  rfl
/-! returns -/
theorem bEnd {nx0 : Nat} (hB : BI G (AA h nx0) s.heap h' nx H locs) {t : State} (ht : t.heap = H) (hn : nx = nx0 + cells) {P : Prop} (hp : P) {v : Option Value} : bQ G v P h' (nx0 + cells) (AA h nx0) aa s (.returned v) t :=
  ⟨rfl, hp, by rw [ht]; exact hB.1, by rw [ht, hB.2.1]; exact hn, hB.2.2.1, hB.2.2.2.1.F ht⟩
theorem bt_i {nx0 : Nat} {v : Int32} (S : CallFix p m c cc nL s args lw_all own) (hr : meth.sig.returnType = some .int) (hlocks : meth.locks = false) (hB : BI G (AA h nx0) s.heap h' nx H locs) (hn : nx = nx0 + cells) {P : Prop} (hp : P) (hdg : decode cc pc = .ok (.ireturn, 1)) : W p l e R s m args below meth c H locs cells slots (MQ below (bQ G (some (.int v)) P h' (nx0 + cells) (AA h nx0)) args s cells slots (AA h nx0)) (F0 m pc ls [.int v]) :=
  W.iret S.1 S.2.1 hr (fun t ht _ => bEnd hB ht hn hp) hB.2.2.2.1.2.2 hdg hlocks
theorem bt_z {nx0 : Nat} {v : Int32} (S : CallFix p m c cc nL s args lw_all own) (hr : meth.sig.returnType = some .boolean) (hlocks : meth.locks = false) (hB : BI G (AA h nx0) s.heap h' nx H locs) (hn : nx = nx0 + cells) (hp : narrow .boolean (.int v) = .int v) (hdg : decode cc pc = .ok (.ireturn, 1)) : W p l e R s m args below meth c H locs cells slots (MQ below (bQ G (some (.int v)) (narrow .boolean (.int v) = .int v) h' (nx0 + cells) (AA h nx0)) args s cells slots (AA h nx0)) (F0 m pc ls [.int v]) :=
  W.zret S.1 S.2.1 hr hp (fun t ht _ => bEnd hB ht hn hp) hB.2.2.2.1.2.2 hdg hlocks
theorem bt_l {nx0 : Nat} {v : Int64} (S : CallFix p m c cc nL s args lw_all own) (hr : meth.sig.returnType = some .long) (hlocks : meth.locks = false) (hB : BI G (AA h nx0) s.heap h' nx H locs) (hn : nx = nx0 + cells) {P : Prop} (hp : P) (hdg : decode cc pc = .ok (.lreturn, 1)) : W p l e R s m args below meth c H locs cells slots (MQ below (bQ G (some (.long v)) P h' (nx0 + cells) (AA h nx0)) args s cells slots (AA h nx0)) (F0 m pc ls [.long v]) :=
  W.lret S.1 S.2.1 hr (fun t ht _ => bEnd hB ht hn hp) hB.2.2.2.1.2.2 hdg hlocks
theorem bt_v {nx0 : Nat} (S : CallFix p m c cc nL s args lw_all own) (hr : meth.sig.returnType = none) (hlocks : meth.locks = false) (hB : BI G (AA h nx0) s.heap h' nx H locs) (hn : nx = nx0 + cells) {P : Prop} (hp : P) (hdg : decode cc pc = .ok (.return_, 1)) : W p l e R s m args below meth c H locs cells slots (MQ below (bQ G none P h' (nx0 + cells) (AA h nx0)) args s cells slots (AA h nx0)) (F0 m pc ls []) :=
  W.vret S.1 S.2.1 hr (fun t ht _ => bEnd hB ht hn hp) hB.2.2.2.1.2.2 hdg hlocks
theorem bt_a {nx0 : Nat} {v : Nat} {rt : FieldType} (S : CallFix p m c cc nL s args lw_all own) (hr : meth.sig.returnType = some rt) (hrt : (∃ n, rt = .object n) ∨ ∃ t, rt = .array t) (hlocks : meth.locks = false) (hB : BI G (AA h nx0) s.heap h' nx H locs) (hn : nx = nx0 + cells) {P : Prop} (hp : P) (hdg : decode cc pc = .ok (.areturn, 1)) : W p l e R s m args below meth c H locs cells slots (MQ below (bQ G (some (.ref v)) P h' (nx0 + cells) (AA h nx0)) args s cells slots (AA h nx0)) (F0 m pc ls [.ref v]) :=
  W.aret S.1 S.2.1 hr hrt (Or.inr ⟨v, rfl⟩) (fun t ht _ => bEnd hB ht hn hp) hB.2.2.2.1.2.2 hdg hlocks
theorem gt_ra {v : Nat} {rt : FieldType} {Ts : List Cond} (S : CallFix p m c cc nL s args Ts own) (hr : meth.sig.returnType = some rt) (hrt : (∃ n, rt = .object n) ∨ ∃ t, rt = .array t) (hlocks : meth.locks = false) {P : Prop} (hP : P) (hdg : decode cc pc = .ok (.areturn, 1)) : W p l e R s m args below meth c s.heap [] cells slots (MQ below (gR (some (.ref v)) P) args s cells slots (fun _ => False)) (F0 m pc ls [.ref v]) :=
  W.aret S.1 S.2.1 hr hrt (Or.inr ⟨v, rfl⟩) (fun t ht _ => ⟨rfl, hP, ht⟩) (fun q h => by cases h) hdg hlocks
theorem gt_rv {Ts : List Cond} (S : CallFix p m c cc nL s args Ts own) (hr : meth.sig.returnType = none) (hlocks : meth.locks = false) {P : Prop} (hP : P) (hdg : decode cc pc = .ok (.return_, 1)) : W p l e R s m args below meth c s.heap [] cells slots (MQ below (gR none P) args s cells slots (fun _ => False)) (F0 m pc ls []) :=
  W.vret S.1 S.2.1 hr (fun t ht _ => ⟨rfl, hP, ht⟩) (fun q h => by cases h) hdg hlocks
end BC
/-- a method's walk from its entry, over a map -/
theorem bGo {l : Launch} {y : MethodName} {cc : ByteArray} {maxL : Nat} {ret : Option FieldType} {rm : Room} {G : hG} {zs : Nat → Nat} {L : List hL} {h : AH} {nx : Nat} {av : List Value} {Qc : Array Value → State → Outcome → State → Prop} {free : Addr → Prop} {mc ms : Nat} (hy : plainFor y = true) (hlen : (lg_sl av).length ≤ maxL)
    (body : ∀ (p : Program) (e : Env) (s : State) (m : MethodId) (below : List Frame) (meth : Method) (c : Code) (ls : Array Slot), CallFix p m c cc maxL s av.toArray lw_all y.cls → meth.sig.returnType = ret → meth.locks = false → meth.name = y.name → s.methodNamed? y = some m → SK G zs L (AA h nx) s → BI G (AA h nx) s.heap h nx s.heap [] → lv_has ls maxL (lv_args 0 av) → W p l e rm s m av.toArray below meth c s.heap [] 0 0 (MQ below Qc av.toArray s mc ms free) (F0 m 0 ls [])) : Met l y (ws_ y cc maxL ret) rm (bPc G zs L h nx av) Qc mc ms free := by
  refine gOfW (cc := cc) (maxL := maxL) (ret := ret) hy rfl ?_
  intro p e s m args below meth c s₁ B hml hv
  obtain ⟨rfl, hP, hz, hK⟩ := hv
  have hts := atoms_spec (ws := ws_ y cc maxL ret) B.pre
  have hts : ∀ w ∈ lw_all, w.before _ s = true := fun w h => hts w (List.mem_cons_of_mem _ h)
  have hl := lv_entry av (n := maxL) hlen
  rw [lg_entry_eq]
  exact body p e s m below meth c _ ⟨B.exec, B.bytes, hml, findClass_of_methodNamed B.named, hts⟩ B.returns B.notSynchronized (name_of_methodNamed B.named B.method).1 B.named hK ⟨hP, hz, fun q e he => Or.inl ⟨e, he⟩, va_S.rf, fun q hq => Or.inr (by rw [← hz]; exact hq)⟩ hl
