/-! LAMBDAS: what is decided of each site (printed by gen/lam.py) -/
set_option maxRecDepth 100000
/-! LAMBDA SITES (printed by gen/data.py) -/
/-- a lambda's call site: its number, where it stands, its entry, its shape -/
abbrev gSite : Type := Nat × MethodName × Nat × Nat × Lambda.Shape
def gSite_0 : gSite := (0, ⟨"GoblinHousehold$Household", "areContractsApart", "(I)Z"⟩, 23, 296, ({ iface := "GoblinHousehold$Question", name := "ask", sam := ({ parameters := [(Jvm.ClassFile.FieldType.object "GoblinHousehold$Contract")], returnType := (Option.some Jvm.ClassFile.FieldType.int) } : Jvm.ClassFile.MethodDescriptor), captured := [Jvm.ClassFile.FieldType.int, Jvm.ClassFile.FieldType.int], kind := 6, implClass := "GoblinHousehold$Household", implName := "lambda$areContractsApart$0", implDesc := ({ parameters := [Jvm.ClassFile.FieldType.int, Jvm.ClassFile.FieldType.int, (Jvm.ClassFile.FieldType.object "GoblinHousehold$Contract")], returnType := (Option.some Jvm.ClassFile.FieldType.int) } : Jvm.ClassFile.MethodDescriptor), implItf := false, inst := ({ parameters := [(Jvm.ClassFile.FieldType.object "GoblinHousehold$Contract")], returnType := (Option.some Jvm.ClassFile.FieldType.int) } : Jvm.ClassFile.MethodDescriptor) } : Jvm.Lambda.Shape))
def gSite_1 : gSite := (1, ⟨"GoblinHousehold", "addGoblin", "(I)I"⟩, 2, 95, ({ iface := "GoblinHousehold$Change", name := "applyTo", sam := ({ parameters := [(Jvm.ClassFile.FieldType.object "GoblinHousehold$Household")], returnType := (Option.some Jvm.ClassFile.FieldType.int) } : Jvm.ClassFile.MethodDescriptor), captured := [Jvm.ClassFile.FieldType.int], kind := 6, implClass := "GoblinHousehold", implName := "lambda$addGoblin$0", implDesc := ({ parameters := [Jvm.ClassFile.FieldType.int, (Jvm.ClassFile.FieldType.object "GoblinHousehold$Household")], returnType := (Option.some Jvm.ClassFile.FieldType.int) } : Jvm.ClassFile.MethodDescriptor), implItf := false, inst := ({ parameters := [(Jvm.ClassFile.FieldType.object "GoblinHousehold$Household")], returnType := (Option.some Jvm.ClassFile.FieldType.int) } : Jvm.ClassFile.MethodDescriptor) } : Jvm.Lambda.Shape))
def gSite_2 : gSite := (2, ⟨"GoblinHousehold", "addBroom", "(I)I"⟩, 2, 102, ({ iface := "GoblinHousehold$Change", name := "applyTo", sam := ({ parameters := [(Jvm.ClassFile.FieldType.object "GoblinHousehold$Household")], returnType := (Option.some Jvm.ClassFile.FieldType.int) } : Jvm.ClassFile.MethodDescriptor), captured := [Jvm.ClassFile.FieldType.int], kind := 6, implClass := "GoblinHousehold", implName := "lambda$addBroom$1", implDesc := ({ parameters := [Jvm.ClassFile.FieldType.int, (Jvm.ClassFile.FieldType.object "GoblinHousehold$Household")], returnType := (Option.some Jvm.ClassFile.FieldType.int) } : Jvm.ClassFile.MethodDescriptor), implItf := false, inst := ({ parameters := [(Jvm.ClassFile.FieldType.object "GoblinHousehold$Household")], returnType := (Option.some Jvm.ClassFile.FieldType.int) } : Jvm.ClassFile.MethodDescriptor) } : Jvm.Lambda.Shape))
def gSite_3 : gSite := (3, ⟨"GoblinHousehold", "banishBroom", "(I)I"⟩, 2, 103, ({ iface := "GoblinHousehold$Change", name := "applyTo", sam := ({ parameters := [(Jvm.ClassFile.FieldType.object "GoblinHousehold$Household")], returnType := (Option.some Jvm.ClassFile.FieldType.int) } : Jvm.ClassFile.MethodDescriptor), captured := [Jvm.ClassFile.FieldType.int], kind := 6, implClass := "GoblinHousehold", implName := "lambda$banishBroom$2", implDesc := ({ parameters := [Jvm.ClassFile.FieldType.int, (Jvm.ClassFile.FieldType.object "GoblinHousehold$Household")], returnType := (Option.some Jvm.ClassFile.FieldType.int) } : Jvm.ClassFile.MethodDescriptor), implItf := false, inst := ({ parameters := [(Jvm.ClassFile.FieldType.object "GoblinHousehold$Household")], returnType := (Option.some Jvm.ClassFile.FieldType.int) } : Jvm.ClassFile.MethodDescriptor) } : Jvm.Lambda.Shape))
def gSite_4 : gSite := (4, ⟨"GoblinHousehold", "recallBroom", "(I)I"⟩, 2, 104, ({ iface := "GoblinHousehold$Change", name := "applyTo", sam := ({ parameters := [(Jvm.ClassFile.FieldType.object "GoblinHousehold$Household")], returnType := (Option.some Jvm.ClassFile.FieldType.int) } : Jvm.ClassFile.MethodDescriptor), captured := [Jvm.ClassFile.FieldType.int], kind := 6, implClass := "GoblinHousehold", implName := "lambda$recallBroom$3", implDesc := ({ parameters := [Jvm.ClassFile.FieldType.int, (Jvm.ClassFile.FieldType.object "GoblinHousehold$Household")], returnType := (Option.some Jvm.ClassFile.FieldType.int) } : Jvm.ClassFile.MethodDescriptor), implItf := false, inst := ({ parameters := [(Jvm.ClassFile.FieldType.object "GoblinHousehold$Household")], returnType := (Option.some Jvm.ClassFile.FieldType.int) } : Jvm.ClassFile.MethodDescriptor) } : Jvm.Lambda.Shape))
def gSite_5 : gSite := (5, ⟨"GoblinHousehold", "hire", "(IIII)I"⟩, 6, 105, ({ iface := "GoblinHousehold$Change", name := "applyTo", sam := ({ parameters := [(Jvm.ClassFile.FieldType.object "GoblinHousehold$Household")], returnType := (Option.some Jvm.ClassFile.FieldType.int) } : Jvm.ClassFile.MethodDescriptor), captured := [Jvm.ClassFile.FieldType.int, Jvm.ClassFile.FieldType.int, Jvm.ClassFile.FieldType.int, Jvm.ClassFile.FieldType.int], kind := 6, implClass := "GoblinHousehold", implName := "lambda$hire$4", implDesc := ({ parameters := [Jvm.ClassFile.FieldType.int, Jvm.ClassFile.FieldType.int, Jvm.ClassFile.FieldType.int, Jvm.ClassFile.FieldType.int, (Jvm.ClassFile.FieldType.object "GoblinHousehold$Household")], returnType := (Option.some Jvm.ClassFile.FieldType.int) } : Jvm.ClassFile.MethodDescriptor), implItf := false, inst := ({ parameters := [(Jvm.ClassFile.FieldType.object "GoblinHousehold$Household")], returnType := (Option.some Jvm.ClassFile.FieldType.int) } : Jvm.ClassFile.MethodDescriptor) } : Jvm.Lambda.Shape))
def gSite_6 : gSite := (6, ⟨"GoblinHousehold", "cancelContract", "(I)I"⟩, 2, 108, ({ iface := "GoblinHousehold$Change", name := "applyTo", sam := ({ parameters := [(Jvm.ClassFile.FieldType.object "GoblinHousehold$Household")], returnType := (Option.some Jvm.ClassFile.FieldType.int) } : Jvm.ClassFile.MethodDescriptor), captured := [Jvm.ClassFile.FieldType.int], kind := 6, implClass := "GoblinHousehold", implName := "lambda$cancelContract$5", implDesc := ({ parameters := [Jvm.ClassFile.FieldType.int, (Jvm.ClassFile.FieldType.object "GoblinHousehold$Household")], returnType := (Option.some Jvm.ClassFile.FieldType.int) } : Jvm.ClassFile.MethodDescriptor), implItf := false, inst := ({ parameters := [(Jvm.ClassFile.FieldType.object "GoblinHousehold$Household")], returnType := (Option.some Jvm.ClassFile.FieldType.int) } : Jvm.ClassFile.MethodDescriptor) } : Jvm.Lambda.Shape))
def gSite_7 : gSite := (7, ⟨"GoblinHousehold", "rest", "(I)I"⟩, 2, 109, ({ iface := "GoblinHousehold$Change", name := "applyTo", sam := ({ parameters := [(Jvm.ClassFile.FieldType.object "GoblinHousehold$Household")], returnType := (Option.some Jvm.ClassFile.FieldType.int) } : Jvm.ClassFile.MethodDescriptor), captured := [Jvm.ClassFile.FieldType.int], kind := 6, implClass := "GoblinHousehold", implName := "lambda$rest$6", implDesc := ({ parameters := [Jvm.ClassFile.FieldType.int, (Jvm.ClassFile.FieldType.object "GoblinHousehold$Household")], returnType := (Option.some Jvm.ClassFile.FieldType.int) } : Jvm.ClassFile.MethodDescriptor), implItf := false, inst := ({ parameters := [(Jvm.ClassFile.FieldType.object "GoblinHousehold$Household")], returnType := (Option.some Jvm.ClassFile.FieldType.int) } : Jvm.ClassFile.MethodDescriptor) } : Jvm.Lambda.Shape))
def gSite_8 : gSite := (8, ⟨"GoblinHousehold", "wake", "(I)I"⟩, 2, 110, ({ iface := "GoblinHousehold$Change", name := "applyTo", sam := ({ parameters := [(Jvm.ClassFile.FieldType.object "GoblinHousehold$Household")], returnType := (Option.some Jvm.ClassFile.FieldType.int) } : Jvm.ClassFile.MethodDescriptor), captured := [Jvm.ClassFile.FieldType.int], kind := 6, implClass := "GoblinHousehold", implName := "lambda$wake$7", implDesc := ({ parameters := [Jvm.ClassFile.FieldType.int, (Jvm.ClassFile.FieldType.object "GoblinHousehold$Household")], returnType := (Option.some Jvm.ClassFile.FieldType.int) } : Jvm.ClassFile.MethodDescriptor), implItf := false, inst := ({ parameters := [(Jvm.ClassFile.FieldType.object "GoblinHousehold$Household")], returnType := (Option.some Jvm.ClassFile.FieldType.int) } : Jvm.ClassFile.MethodDescriptor) } : Jvm.Lambda.Shape))
def gSite_9 : gSite := (9, ⟨"GoblinHousehold", "lend", "(II)I"⟩, 3, 111, ({ iface := "GoblinHousehold$Change", name := "applyTo", sam := ({ parameters := [(Jvm.ClassFile.FieldType.object "GoblinHousehold$Household")], returnType := (Option.some Jvm.ClassFile.FieldType.int) } : Jvm.ClassFile.MethodDescriptor), captured := [Jvm.ClassFile.FieldType.int, Jvm.ClassFile.FieldType.int], kind := 6, implClass := "GoblinHousehold", implName := "lambda$lend$8", implDesc := ({ parameters := [Jvm.ClassFile.FieldType.int, Jvm.ClassFile.FieldType.int, (Jvm.ClassFile.FieldType.object "GoblinHousehold$Household")], returnType := (Option.some Jvm.ClassFile.FieldType.int) } : Jvm.ClassFile.MethodDescriptor), implItf := false, inst := ({ parameters := [(Jvm.ClassFile.FieldType.object "GoblinHousehold$Household")], returnType := (Option.some Jvm.ClassFile.FieldType.int) } : Jvm.ClassFile.MethodDescriptor) } : Jvm.Lambda.Shape))
def gSite_10 : gSite := (10, ⟨"GoblinHousehold", "fund", "(I)I"⟩, 2, 114, ({ iface := "GoblinHousehold$Change", name := "applyTo", sam := ({ parameters := [(Jvm.ClassFile.FieldType.object "GoblinHousehold$Household")], returnType := (Option.some Jvm.ClassFile.FieldType.int) } : Jvm.ClassFile.MethodDescriptor), captured := [Jvm.ClassFile.FieldType.int], kind := 6, implClass := "GoblinHousehold", implName := "lambda$fund$9", implDesc := ({ parameters := [Jvm.ClassFile.FieldType.int, (Jvm.ClassFile.FieldType.object "GoblinHousehold$Household")], returnType := (Option.some Jvm.ClassFile.FieldType.int) } : Jvm.ClassFile.MethodDescriptor), implItf := false, inst := ({ parameters := [(Jvm.ClassFile.FieldType.object "GoblinHousehold$Household")], returnType := (Option.some Jvm.ClassFile.FieldType.int) } : Jvm.ClassFile.MethodDescriptor) } : Jvm.Lambda.Shape))
def gSite_11 : gSite := (11, ⟨"GoblinHousehold", "spend", "(I)I"⟩, 2, 115, ({ iface := "GoblinHousehold$Change", name := "applyTo", sam := ({ parameters := [(Jvm.ClassFile.FieldType.object "GoblinHousehold$Household")], returnType := (Option.some Jvm.ClassFile.FieldType.int) } : Jvm.ClassFile.MethodDescriptor), captured := [Jvm.ClassFile.FieldType.int], kind := 6, implClass := "GoblinHousehold", implName := "lambda$spend$10", implDesc := ({ parameters := [Jvm.ClassFile.FieldType.int, (Jvm.ClassFile.FieldType.object "GoblinHousehold$Household")], returnType := (Option.some Jvm.ClassFile.FieldType.int) } : Jvm.ClassFile.MethodDescriptor), implItf := false, inst := ({ parameters := [(Jvm.ClassFile.FieldType.object "GoblinHousehold$Household")], returnType := (Option.some Jvm.ClassFile.FieldType.int) } : Jvm.ClassFile.MethodDescriptor) } : Jvm.Lambda.Shape))
def gSite_12 : gSite := (12, ⟨"GoblinHousehold", "passNights", "(I)I"⟩, 2, 116, ({ iface := "GoblinHousehold$Change", name := "applyTo", sam := ({ parameters := [(Jvm.ClassFile.FieldType.object "GoblinHousehold$Household")], returnType := (Option.some Jvm.ClassFile.FieldType.int) } : Jvm.ClassFile.MethodDescriptor), captured := [Jvm.ClassFile.FieldType.int], kind := 6, implClass := "GoblinHousehold", implName := "lambda$passNights$11", implDesc := ({ parameters := [Jvm.ClassFile.FieldType.int, (Jvm.ClassFile.FieldType.object "GoblinHousehold$Household")], returnType := (Option.some Jvm.ClassFile.FieldType.int) } : Jvm.ClassFile.MethodDescriptor), implItf := false, inst := ({ parameters := [(Jvm.ClassFile.FieldType.object "GoblinHousehold$Household")], returnType := (Option.some Jvm.ClassFile.FieldType.int) } : Jvm.ClassFile.MethodDescriptor) } : Jvm.Lambda.Shape))
def gSite_13 : gSite := (13, ⟨"GoblinHousehold", "goblinOf", "(I)I"⟩, 2, 234, ({ iface := "GoblinHousehold$Question", name := "ask", sam := ({ parameters := [(Jvm.ClassFile.FieldType.object "GoblinHousehold$Contract")], returnType := (Option.some Jvm.ClassFile.FieldType.int) } : Jvm.ClassFile.MethodDescriptor), captured := [], kind := 6, implClass := "GoblinHousehold", implName := "lambda$goblinOf$12", implDesc := ({ parameters := [(Jvm.ClassFile.FieldType.object "GoblinHousehold$Contract")], returnType := (Option.some Jvm.ClassFile.FieldType.int) } : Jvm.ClassFile.MethodDescriptor), implItf := false, inst := ({ parameters := [(Jvm.ClassFile.FieldType.object "GoblinHousehold$Contract")], returnType := (Option.some Jvm.ClassFile.FieldType.int) } : Jvm.ClassFile.MethodDescriptor) } : Jvm.Lambda.Shape))
def gSite_14 : gSite := (14, ⟨"GoblinHousehold", "roomOf", "(I)I"⟩, 2, 241, ({ iface := "GoblinHousehold$Question", name := "ask", sam := ({ parameters := [(Jvm.ClassFile.FieldType.object "GoblinHousehold$Contract")], returnType := (Option.some Jvm.ClassFile.FieldType.int) } : Jvm.ClassFile.MethodDescriptor), captured := [], kind := 6, implClass := "GoblinHousehold", implName := "lambda$roomOf$13", implDesc := ({ parameters := [(Jvm.ClassFile.FieldType.object "GoblinHousehold$Contract")], returnType := (Option.some Jvm.ClassFile.FieldType.int) } : Jvm.ClassFile.MethodDescriptor), implItf := false, inst := ({ parameters := [(Jvm.ClassFile.FieldType.object "GoblinHousehold$Contract")], returnType := (Option.some Jvm.ClassFile.FieldType.int) } : Jvm.ClassFile.MethodDescriptor) } : Jvm.Lambda.Shape))
def gSite_15 : gSite := (15, ⟨"GoblinHousehold", "wage", "(I)I"⟩, 2, 242, ({ iface := "GoblinHousehold$Question", name := "ask", sam := ({ parameters := [(Jvm.ClassFile.FieldType.object "GoblinHousehold$Contract")], returnType := (Option.some Jvm.ClassFile.FieldType.int) } : Jvm.ClassFile.MethodDescriptor), captured := [], kind := 6, implClass := "GoblinHousehold", implName := "lambda$wage$14", implDesc := ({ parameters := [(Jvm.ClassFile.FieldType.object "GoblinHousehold$Contract")], returnType := (Option.some Jvm.ClassFile.FieldType.int) } : Jvm.ClassFile.MethodDescriptor), implItf := false, inst := ({ parameters := [(Jvm.ClassFile.FieldType.object "GoblinHousehold$Contract")], returnType := (Option.some Jvm.ClassFile.FieldType.int) } : Jvm.ClassFile.MethodDescriptor) } : Jvm.Lambda.Shape))
def gSite_16 : gSite := (16, ⟨"GoblinHousehold", "effort", "(I)I"⟩, 2, 243, ({ iface := "GoblinHousehold$Question", name := "ask", sam := ({ parameters := [(Jvm.ClassFile.FieldType.object "GoblinHousehold$Contract")], returnType := (Option.some Jvm.ClassFile.FieldType.int) } : Jvm.ClassFile.MethodDescriptor), captured := [], kind := 6, implClass := "GoblinHousehold", implName := "lambda$effort$15", implDesc := ({ parameters := [(Jvm.ClassFile.FieldType.object "GoblinHousehold$Contract")], returnType := (Option.some Jvm.ClassFile.FieldType.int) } : Jvm.ClassFile.MethodDescriptor), implItf := false, inst := ({ parameters := [(Jvm.ClassFile.FieldType.object "GoblinHousehold$Contract")], returnType := (Option.some Jvm.ClassFile.FieldType.int) } : Jvm.ClassFile.MethodDescriptor) } : Jvm.Lambda.Shape))
def gSite_17 : gSite := (17, ⟨"GoblinHousehold$Parser", "change", "()LGoblinHousehold$Change;"⟩, 154, 132, ({ iface := "GoblinHousehold$Change", name := "applyTo", sam := ({ parameters := [(Jvm.ClassFile.FieldType.object "GoblinHousehold$Household")], returnType := (Option.some Jvm.ClassFile.FieldType.int) } : Jvm.ClassFile.MethodDescriptor), captured := [Jvm.ClassFile.FieldType.int, Jvm.ClassFile.FieldType.int, Jvm.ClassFile.FieldType.int, Jvm.ClassFile.FieldType.int], kind := 6, implClass := "GoblinHousehold$Parser", implName := "lambda$change$9", implDesc := ({ parameters := [Jvm.ClassFile.FieldType.int, Jvm.ClassFile.FieldType.int, Jvm.ClassFile.FieldType.int, Jvm.ClassFile.FieldType.int, (Jvm.ClassFile.FieldType.object "GoblinHousehold$Household")], returnType := (Option.some Jvm.ClassFile.FieldType.int) } : Jvm.ClassFile.MethodDescriptor), implItf := false, inst := ({ parameters := [(Jvm.ClassFile.FieldType.object "GoblinHousehold$Household")], returnType := (Option.some Jvm.ClassFile.FieldType.int) } : Jvm.ClassFile.MethodDescriptor) } : Jvm.Lambda.Shape))
def gSite_18 : gSite := (18, ⟨"GoblinHousehold$Parser", "change", "()LGoblinHousehold$Change;"⟩, 176, 135, ({ iface := "GoblinHousehold$Change", name := "applyTo", sam := ({ parameters := [(Jvm.ClassFile.FieldType.object "GoblinHousehold$Household")], returnType := (Option.some Jvm.ClassFile.FieldType.int) } : Jvm.ClassFile.MethodDescriptor), captured := [Jvm.ClassFile.FieldType.int, Jvm.ClassFile.FieldType.int], kind := 6, implClass := "GoblinHousehold$Parser", implName := "lambda$change$10", implDesc := ({ parameters := [Jvm.ClassFile.FieldType.int, Jvm.ClassFile.FieldType.int, (Jvm.ClassFile.FieldType.object "GoblinHousehold$Household")], returnType := (Option.some Jvm.ClassFile.FieldType.int) } : Jvm.ClassFile.MethodDescriptor), implItf := false, inst := ({ parameters := [(Jvm.ClassFile.FieldType.object "GoblinHousehold$Household")], returnType := (Option.some Jvm.ClassFile.FieldType.int) } : Jvm.ClassFile.MethodDescriptor) } : Jvm.Lambda.Shape))
def gSite_19 : gSite := (19, ⟨"GoblinHousehold$Parser", "change", "()LGoblinHousehold$Change;"⟩, 203, 138, ({ iface := "GoblinHousehold$Change", name := "applyTo", sam := ({ parameters := [(Jvm.ClassFile.FieldType.object "GoblinHousehold$Household")], returnType := (Option.some Jvm.ClassFile.FieldType.int) } : Jvm.ClassFile.MethodDescriptor), captured := [Jvm.ClassFile.FieldType.int], kind := 6, implClass := "GoblinHousehold$Parser", implName := "lambda$change$11", implDesc := ({ parameters := [Jvm.ClassFile.FieldType.int, (Jvm.ClassFile.FieldType.object "GoblinHousehold$Household")], returnType := (Option.some Jvm.ClassFile.FieldType.int) } : Jvm.ClassFile.MethodDescriptor), implItf := false, inst := ({ parameters := [(Jvm.ClassFile.FieldType.object "GoblinHousehold$Household")], returnType := (Option.some Jvm.ClassFile.FieldType.int) } : Jvm.ClassFile.MethodDescriptor) } : Jvm.Lambda.Shape))
def gSite_20 : gSite := (20, ⟨"GoblinHousehold$Parser", "oneArgument", "(Ljava/lang/String;)LGoblinHousehold$Change;"⟩, 297, 111, ({ iface := "GoblinHousehold$Change", name := "applyTo", sam := ({ parameters := [(Jvm.ClassFile.FieldType.object "GoblinHousehold$Household")], returnType := (Option.some Jvm.ClassFile.FieldType.int) } : Jvm.ClassFile.MethodDescriptor), captured := [Jvm.ClassFile.FieldType.int], kind := 6, implClass := "GoblinHousehold$Parser", implName := "lambda$oneArgument$0", implDesc := ({ parameters := [Jvm.ClassFile.FieldType.int, (Jvm.ClassFile.FieldType.object "GoblinHousehold$Household")], returnType := (Option.some Jvm.ClassFile.FieldType.int) } : Jvm.ClassFile.MethodDescriptor), implItf := false, inst := ({ parameters := [(Jvm.ClassFile.FieldType.object "GoblinHousehold$Household")], returnType := (Option.some Jvm.ClassFile.FieldType.int) } : Jvm.ClassFile.MethodDescriptor) } : Jvm.Lambda.Shape))
def gSite_21 : gSite := (21, ⟨"GoblinHousehold$Parser", "oneArgument", "(Ljava/lang/String;)LGoblinHousehold$Change;"⟩, 304, 115, ({ iface := "GoblinHousehold$Change", name := "applyTo", sam := ({ parameters := [(Jvm.ClassFile.FieldType.object "GoblinHousehold$Household")], returnType := (Option.some Jvm.ClassFile.FieldType.int) } : Jvm.ClassFile.MethodDescriptor), captured := [Jvm.ClassFile.FieldType.int], kind := 6, implClass := "GoblinHousehold$Parser", implName := "lambda$oneArgument$1", implDesc := ({ parameters := [Jvm.ClassFile.FieldType.int, (Jvm.ClassFile.FieldType.object "GoblinHousehold$Household")], returnType := (Option.some Jvm.ClassFile.FieldType.int) } : Jvm.ClassFile.MethodDescriptor), implItf := false, inst := ({ parameters := [(Jvm.ClassFile.FieldType.object "GoblinHousehold$Household")], returnType := (Option.some Jvm.ClassFile.FieldType.int) } : Jvm.ClassFile.MethodDescriptor) } : Jvm.Lambda.Shape))
def gSite_22 : gSite := (22, ⟨"GoblinHousehold$Parser", "oneArgument", "(Ljava/lang/String;)LGoblinHousehold$Change;"⟩, 311, 116, ({ iface := "GoblinHousehold$Change", name := "applyTo", sam := ({ parameters := [(Jvm.ClassFile.FieldType.object "GoblinHousehold$Household")], returnType := (Option.some Jvm.ClassFile.FieldType.int) } : Jvm.ClassFile.MethodDescriptor), captured := [Jvm.ClassFile.FieldType.int], kind := 6, implClass := "GoblinHousehold$Parser", implName := "lambda$oneArgument$2", implDesc := ({ parameters := [Jvm.ClassFile.FieldType.int, (Jvm.ClassFile.FieldType.object "GoblinHousehold$Household")], returnType := (Option.some Jvm.ClassFile.FieldType.int) } : Jvm.ClassFile.MethodDescriptor), implItf := false, inst := ({ parameters := [(Jvm.ClassFile.FieldType.object "GoblinHousehold$Household")], returnType := (Option.some Jvm.ClassFile.FieldType.int) } : Jvm.ClassFile.MethodDescriptor) } : Jvm.Lambda.Shape))
def gSite_23 : gSite := (23, ⟨"GoblinHousehold$Parser", "oneArgument", "(Ljava/lang/String;)LGoblinHousehold$Change;"⟩, 318, 117, ({ iface := "GoblinHousehold$Change", name := "applyTo", sam := ({ parameters := [(Jvm.ClassFile.FieldType.object "GoblinHousehold$Household")], returnType := (Option.some Jvm.ClassFile.FieldType.int) } : Jvm.ClassFile.MethodDescriptor), captured := [Jvm.ClassFile.FieldType.int], kind := 6, implClass := "GoblinHousehold$Parser", implName := "lambda$oneArgument$3", implDesc := ({ parameters := [Jvm.ClassFile.FieldType.int, (Jvm.ClassFile.FieldType.object "GoblinHousehold$Household")], returnType := (Option.some Jvm.ClassFile.FieldType.int) } : Jvm.ClassFile.MethodDescriptor), implItf := false, inst := ({ parameters := [(Jvm.ClassFile.FieldType.object "GoblinHousehold$Household")], returnType := (Option.some Jvm.ClassFile.FieldType.int) } : Jvm.ClassFile.MethodDescriptor) } : Jvm.Lambda.Shape))
def gSite_24 : gSite := (24, ⟨"GoblinHousehold$Parser", "oneArgument", "(Ljava/lang/String;)LGoblinHousehold$Change;"⟩, 325, 118, ({ iface := "GoblinHousehold$Change", name := "applyTo", sam := ({ parameters := [(Jvm.ClassFile.FieldType.object "GoblinHousehold$Household")], returnType := (Option.some Jvm.ClassFile.FieldType.int) } : Jvm.ClassFile.MethodDescriptor), captured := [Jvm.ClassFile.FieldType.int], kind := 6, implClass := "GoblinHousehold$Parser", implName := "lambda$oneArgument$4", implDesc := ({ parameters := [Jvm.ClassFile.FieldType.int, (Jvm.ClassFile.FieldType.object "GoblinHousehold$Household")], returnType := (Option.some Jvm.ClassFile.FieldType.int) } : Jvm.ClassFile.MethodDescriptor), implItf := false, inst := ({ parameters := [(Jvm.ClassFile.FieldType.object "GoblinHousehold$Household")], returnType := (Option.some Jvm.ClassFile.FieldType.int) } : Jvm.ClassFile.MethodDescriptor) } : Jvm.Lambda.Shape))
def gSite_25 : gSite := (25, ⟨"GoblinHousehold$Parser", "oneArgument", "(Ljava/lang/String;)LGoblinHousehold$Change;"⟩, 332, 119, ({ iface := "GoblinHousehold$Change", name := "applyTo", sam := ({ parameters := [(Jvm.ClassFile.FieldType.object "GoblinHousehold$Household")], returnType := (Option.some Jvm.ClassFile.FieldType.int) } : Jvm.ClassFile.MethodDescriptor), captured := [Jvm.ClassFile.FieldType.int], kind := 6, implClass := "GoblinHousehold$Parser", implName := "lambda$oneArgument$5", implDesc := ({ parameters := [Jvm.ClassFile.FieldType.int, (Jvm.ClassFile.FieldType.object "GoblinHousehold$Household")], returnType := (Option.some Jvm.ClassFile.FieldType.int) } : Jvm.ClassFile.MethodDescriptor), implItf := false, inst := ({ parameters := [(Jvm.ClassFile.FieldType.object "GoblinHousehold$Household")], returnType := (Option.some Jvm.ClassFile.FieldType.int) } : Jvm.ClassFile.MethodDescriptor) } : Jvm.Lambda.Shape))
def gSite_26 : gSite := (26, ⟨"GoblinHousehold$Parser", "oneArgument", "(Ljava/lang/String;)LGoblinHousehold$Change;"⟩, 339, 120, ({ iface := "GoblinHousehold$Change", name := "applyTo", sam := ({ parameters := [(Jvm.ClassFile.FieldType.object "GoblinHousehold$Household")], returnType := (Option.some Jvm.ClassFile.FieldType.int) } : Jvm.ClassFile.MethodDescriptor), captured := [Jvm.ClassFile.FieldType.int], kind := 6, implClass := "GoblinHousehold$Parser", implName := "lambda$oneArgument$6", implDesc := ({ parameters := [Jvm.ClassFile.FieldType.int, (Jvm.ClassFile.FieldType.object "GoblinHousehold$Household")], returnType := (Option.some Jvm.ClassFile.FieldType.int) } : Jvm.ClassFile.MethodDescriptor), implItf := false, inst := ({ parameters := [(Jvm.ClassFile.FieldType.object "GoblinHousehold$Household")], returnType := (Option.some Jvm.ClassFile.FieldType.int) } : Jvm.ClassFile.MethodDescriptor) } : Jvm.Lambda.Shape))
def gSite_27 : gSite := (27, ⟨"GoblinHousehold$Parser", "oneArgument", "(Ljava/lang/String;)LGoblinHousehold$Change;"⟩, 346, 121, ({ iface := "GoblinHousehold$Change", name := "applyTo", sam := ({ parameters := [(Jvm.ClassFile.FieldType.object "GoblinHousehold$Household")], returnType := (Option.some Jvm.ClassFile.FieldType.int) } : Jvm.ClassFile.MethodDescriptor), captured := [Jvm.ClassFile.FieldType.int], kind := 6, implClass := "GoblinHousehold$Parser", implName := "lambda$oneArgument$7", implDesc := ({ parameters := [Jvm.ClassFile.FieldType.int, (Jvm.ClassFile.FieldType.object "GoblinHousehold$Household")], returnType := (Option.some Jvm.ClassFile.FieldType.int) } : Jvm.ClassFile.MethodDescriptor), implItf := false, inst := ({ parameters := [(Jvm.ClassFile.FieldType.object "GoblinHousehold$Household")], returnType := (Option.some Jvm.ClassFile.FieldType.int) } : Jvm.ClassFile.MethodDescriptor) } : Jvm.Lambda.Shape))
def gSite_28 : gSite := (28, ⟨"GoblinHousehold$Parser", "oneArgument", "(Ljava/lang/String;)LGoblinHousehold$Change;"⟩, 353, 122, ({ iface := "GoblinHousehold$Change", name := "applyTo", sam := ({ parameters := [(Jvm.ClassFile.FieldType.object "GoblinHousehold$Household")], returnType := (Option.some Jvm.ClassFile.FieldType.int) } : Jvm.ClassFile.MethodDescriptor), captured := [Jvm.ClassFile.FieldType.int], kind := 6, implClass := "GoblinHousehold$Parser", implName := "lambda$oneArgument$8", implDesc := ({ parameters := [Jvm.ClassFile.FieldType.int, (Jvm.ClassFile.FieldType.object "GoblinHousehold$Household")], returnType := (Option.some Jvm.ClassFile.FieldType.int) } : Jvm.ClassFile.MethodDescriptor), implItf := false, inst := ({ parameters := [(Jvm.ClassFile.FieldType.object "GoblinHousehold$Household")], returnType := (Option.some Jvm.ClassFile.FieldType.int) } : Jvm.ClassFile.MethodDescriptor) } : Jvm.Lambda.Shape))
def gSites : List gSite := [gSite_0, gSite_1, gSite_2, gSite_3, gSite_4, gSite_5, gSite_6, gSite_7, gSite_8, gSite_9, gSite_10, gSite_11, gSite_12, gSite_13, gSite_14, gSite_15, gSite_16, gSite_17, gSite_18, gSite_19, gSite_20, gSite_21, gSite_22, gSite_23, gSite_24, gSite_25, gSite_26, gSite_27, gSite_28]

def gLD (σ : Lambda.Shape) (caller : String) : ClassFile := (σ.file caller).getD { minorVersion := 0, majorVersion := 0, constantPool := #[], accessFlags := 0, thisClass := 0, superClass := 0, interfaces := #[], fields := #[], methods := #[], attributes := #[] }
def gLF (D : ClassFile) : Method := ((layoutMethods D).bind (·[1]?)).getD default
def gLL (D : ClassFile) : Array Field × Array FieldType × Array FieldType := (layoutFields D 0).getD (#[], #[], #[])
def gArgN (j : Nat) : String := ["arg$1", "arg$2", "arg$3", "arg$4"].getD j ""
/-- what is decided of a shape's file: n ints are held; the second method calls the static method y through entry mi -/
def gLamOk (σ : Lambda.Shape) (caller : String) (n : Nat) (bs : List UInt8) (fx fn : List Nat) (mi cx cu ntx : Nat) (y : MethodName) : Prop :=
  (σ.file caller).isSome = true ∧ ((layoutMethods (gLD σ caller)).bind (·[1]?)).isSome = true ∧ (layoutFields (gLD σ caller) 0).isSome = true ∧
  ((gLF (gLD σ caller)).code.map fun c => (c.code.data, c.maxLocals)) = some (bs.toArray, 2) ∧
  ((gLF (gLD σ caller)).accessFlags, (gLF (gLD σ caller)).sig.returnType) = (0x0001, (some .int : Option FieldType)) ∧
  ((gLD σ caller).constantPool[mi]? = some (.methodref cx ntx) ∧ (gLD σ caller).constantPool.className? cx = some y.cls ∧ (gLD σ caller).constantPool.nameAndType? ntx = some (y.name, y.desc)) ∧
  ((gLD σ caller).constantPool[cx]? = some (.class_ cu) ∧ (gLD σ caller).constantPool.string? cu = some y.cls ∧ cx ≠ (gLD σ caller).thisClass) ∧
  (∀ j, j < n → ((gLD σ caller).constantPool[fx.getD j 0]? = some (.fieldref 2 (fn.getD j 0)) ∧ (gLD σ caller).constantPool.nameAndType? (fn.getD j 0) = some (gArgN j, "I") ∧ (gLL (gLD σ caller)).1.findIdx? (·.name == gArgN j) = some j ∧ ((gLL (gLD σ caller)).1[j]?).map (fun f => (f.isStatic, f.slot)) = some (false, j))) ∧
  (gLL (gLD σ caller)).2.1 = (List.replicate n FieldType.int).toArray ∧
  plainName (caller ++ "$$Lambda") = true ∧ σ.implClass = y.cls ∧ σ.implName = y.name ∧ σ.implDesc.toString = y.desc ∧ σ.implItf = false
/-- the bytes of a made class's method -/
def gLamDec (n : Nat) (bs : List UInt8) (fx : List Nat) (mi : Nat) : Prop :=
  (∀ j, j < n → decode ⟨bs.toArray⟩ (4 * j) = .ok (.aload_n 0, 1) ∧ decode ⟨bs.toArray⟩ (4 * j + 1) = .ok (.getfield (fx.getD j 0), 3)) ∧ decode ⟨bs.toArray⟩ (4 * n) = .ok (.aload_n 1, 1) ∧ decode ⟨bs.toArray⟩ (4 * n + 1) = .ok (.invokestatic mi, 3) ∧ decode ⟨bs.toArray⟩ (4 * n + 1 + 3) = .ok (.ireturn, 1)

theorem lok_0 : gLamOk gSite_0.2.2.2.2 gSite_0.2.1.cls 2 [42, 180, 0, 16, 42, 180, 0, 18, 43, 184, 0, 26, 172] [16, 18] [15, 17] 26 22 21 25 yX2_lambda_areContractsApart_0 := by
  unfold gLamOk
  refine ⟨?_, ?_, ?_, ?_, ?_, ?_, ?_, ?_, ?_, ?_, ?_, ?_, ?_, ?_⟩ <;> decide +kernel
theorem ldec_0 : gLamDec 2 [42, 180, 0, 16, 42, 180, 0, 18, 43, 184, 0, 26, 172] [16, 18] 26 := by
  unfold gLamDec
  refine ⟨?_, ?_, ?_, ?_⟩ <;> decide +kernel
theorem lok_1 : gLamOk gSite_1.2.2.2.2 gSite_1.2.1.cls 1 [42, 180, 0, 15, 43, 184, 0, 23, 172] [15] [14] 23 19 18 22 yX1_lambda_addGoblin_0 := by
  unfold gLamOk
  refine ⟨?_, ?_, ?_, ?_, ?_, ?_, ?_, ?_, ?_, ?_, ?_, ?_, ?_, ?_⟩ <;> decide +kernel
theorem ldec_1 : gLamDec 1 [42, 180, 0, 15, 43, 184, 0, 23, 172] [15] 23 := by
  unfold gLamDec
  refine ⟨?_, ?_, ?_, ?_⟩ <;> decide +kernel
theorem lok_2 : gLamOk gSite_2.2.2.2.2 gSite_2.2.1.cls 1 [42, 180, 0, 15, 43, 184, 0, 23, 172] [15] [14] 23 19 18 22 yX1_lambda_addBroom_1 := by
  unfold gLamOk
  refine ⟨?_, ?_, ?_, ?_, ?_, ?_, ?_, ?_, ?_, ?_, ?_, ?_, ?_, ?_⟩ <;> decide +kernel
theorem ldec_2 : gLamDec 1 [42, 180, 0, 15, 43, 184, 0, 23, 172] [15] 23 := by
  unfold gLamDec
  refine ⟨?_, ?_, ?_, ?_⟩ <;> decide +kernel
theorem lok_3 : gLamOk gSite_3.2.2.2.2 gSite_3.2.1.cls 1 [42, 180, 0, 15, 43, 184, 0, 23, 172] [15] [14] 23 19 18 22 yX1_lambda_banishBroom_2 := by
  unfold gLamOk
  refine ⟨?_, ?_, ?_, ?_, ?_, ?_, ?_, ?_, ?_, ?_, ?_, ?_, ?_, ?_⟩ <;> decide +kernel
theorem ldec_3 : gLamDec 1 [42, 180, 0, 15, 43, 184, 0, 23, 172] [15] 23 := by
  unfold gLamDec
  refine ⟨?_, ?_, ?_, ?_⟩ <;> decide +kernel
theorem lok_4 : gLamOk gSite_4.2.2.2.2 gSite_4.2.1.cls 1 [42, 180, 0, 15, 43, 184, 0, 23, 172] [15] [14] 23 19 18 22 yX1_lambda_recallBroom_3 := by
  unfold gLamOk
  refine ⟨?_, ?_, ?_, ?_, ?_, ?_, ?_, ?_, ?_, ?_, ?_, ?_, ?_, ?_⟩ <;> decide +kernel
theorem ldec_4 : gLamDec 1 [42, 180, 0, 15, 43, 184, 0, 23, 172] [15] 23 := by
  unfold gLamDec
  refine ⟨?_, ?_, ?_, ?_⟩ <;> decide +kernel
theorem lok_5 : gLamOk gSite_5.2.2.2.2 gSite_5.2.1.cls 4 [42, 180, 0, 18, 42, 180, 0, 20, 42, 180, 0, 22, 42, 180, 0, 24, 43, 184, 0, 32, 172] [18, 20, 22, 24] [17, 19, 21, 23] 32 28 27 31 yX1_lambda_hire_4 := by
  unfold gLamOk
  refine ⟨?_, ?_, ?_, ?_, ?_, ?_, ?_, ?_, ?_, ?_, ?_, ?_, ?_, ?_⟩ <;> decide +kernel
theorem ldec_5 : gLamDec 4 [42, 180, 0, 18, 42, 180, 0, 20, 42, 180, 0, 22, 42, 180, 0, 24, 43, 184, 0, 32, 172] [18, 20, 22, 24] 32 := by
  unfold gLamDec
  refine ⟨?_, ?_, ?_, ?_⟩ <;> decide +kernel
theorem lok_6 : gLamOk gSite_6.2.2.2.2 gSite_6.2.1.cls 1 [42, 180, 0, 15, 43, 184, 0, 23, 172] [15] [14] 23 19 18 22 yX1_lambda_cancelContract_5 := by
  unfold gLamOk
  refine ⟨?_, ?_, ?_, ?_, ?_, ?_, ?_, ?_, ?_, ?_, ?_, ?_, ?_, ?_⟩ <;> decide +kernel
theorem ldec_6 : gLamDec 1 [42, 180, 0, 15, 43, 184, 0, 23, 172] [15] 23 := by
  unfold gLamDec
  refine ⟨?_, ?_, ?_, ?_⟩ <;> decide +kernel
theorem lok_7 : gLamOk gSite_7.2.2.2.2 gSite_7.2.1.cls 1 [42, 180, 0, 15, 43, 184, 0, 23, 172] [15] [14] 23 19 18 22 yX1_lambda_rest_6 := by
  unfold gLamOk
  refine ⟨?_, ?_, ?_, ?_, ?_, ?_, ?_, ?_, ?_, ?_, ?_, ?_, ?_, ?_⟩ <;> decide +kernel
theorem ldec_7 : gLamDec 1 [42, 180, 0, 15, 43, 184, 0, 23, 172] [15] 23 := by
  unfold gLamDec
  refine ⟨?_, ?_, ?_, ?_⟩ <;> decide +kernel
theorem lok_8 : gLamOk gSite_8.2.2.2.2 gSite_8.2.1.cls 1 [42, 180, 0, 15, 43, 184, 0, 23, 172] [15] [14] 23 19 18 22 yX1_lambda_wake_7 := by
  unfold gLamOk
  refine ⟨?_, ?_, ?_, ?_, ?_, ?_, ?_, ?_, ?_, ?_, ?_, ?_, ?_, ?_⟩ <;> decide +kernel
theorem ldec_8 : gLamDec 1 [42, 180, 0, 15, 43, 184, 0, 23, 172] [15] 23 := by
  unfold gLamDec
  refine ⟨?_, ?_, ?_, ?_⟩ <;> decide +kernel
theorem lok_9 : gLamOk gSite_9.2.2.2.2 gSite_9.2.1.cls 2 [42, 180, 0, 16, 42, 180, 0, 18, 43, 184, 0, 26, 172] [16, 18] [15, 17] 26 22 21 25 yX1_lambda_lend_8 := by
  unfold gLamOk
  refine ⟨?_, ?_, ?_, ?_, ?_, ?_, ?_, ?_, ?_, ?_, ?_, ?_, ?_, ?_⟩ <;> decide +kernel
theorem ldec_9 : gLamDec 2 [42, 180, 0, 16, 42, 180, 0, 18, 43, 184, 0, 26, 172] [16, 18] 26 := by
  unfold gLamDec
  refine ⟨?_, ?_, ?_, ?_⟩ <;> decide +kernel
theorem lok_10 : gLamOk gSite_10.2.2.2.2 gSite_10.2.1.cls 1 [42, 180, 0, 15, 43, 184, 0, 23, 172] [15] [14] 23 19 18 22 yX1_lambda_fund_9 := by
  unfold gLamOk
  refine ⟨?_, ?_, ?_, ?_, ?_, ?_, ?_, ?_, ?_, ?_, ?_, ?_, ?_, ?_⟩ <;> decide +kernel
theorem ldec_10 : gLamDec 1 [42, 180, 0, 15, 43, 184, 0, 23, 172] [15] 23 := by
  unfold gLamDec
  refine ⟨?_, ?_, ?_, ?_⟩ <;> decide +kernel
theorem lok_11 : gLamOk gSite_11.2.2.2.2 gSite_11.2.1.cls 1 [42, 180, 0, 15, 43, 184, 0, 23, 172] [15] [14] 23 19 18 22 yX1_lambda_spend_10 := by
  unfold gLamOk
  refine ⟨?_, ?_, ?_, ?_, ?_, ?_, ?_, ?_, ?_, ?_, ?_, ?_, ?_, ?_⟩ <;> decide +kernel
theorem ldec_11 : gLamDec 1 [42, 180, 0, 15, 43, 184, 0, 23, 172] [15] 23 := by
  unfold gLamDec
  refine ⟨?_, ?_, ?_, ?_⟩ <;> decide +kernel
theorem lok_12 : gLamOk gSite_12.2.2.2.2 gSite_12.2.1.cls 1 [42, 180, 0, 15, 43, 184, 0, 23, 172] [15] [14] 23 19 18 22 yX1_lambda_passNights_11 := by
  unfold gLamOk
  refine ⟨?_, ?_, ?_, ?_, ?_, ?_, ?_, ?_, ?_, ?_, ?_, ?_, ?_, ?_⟩ <;> decide +kernel
theorem ldec_12 : gLamDec 1 [42, 180, 0, 15, 43, 184, 0, 23, 172] [15] 23 := by
  unfold gLamDec
  refine ⟨?_, ?_, ?_, ?_⟩ <;> decide +kernel
theorem lok_13 : gLamOk gSite_13.2.2.2.2 gSite_13.2.1.cls 0 [43, 184, 0, 17, 172] [] [] 17 14 13 16 yX1_lambda_goblinOf_12 := by
  unfold gLamOk
  refine ⟨?_, ?_, ?_, ?_, ?_, ?_, ?_, ?_, ?_, ?_, ?_, ?_, ?_, ?_⟩ <;> decide +kernel
theorem ldec_13 : gLamDec 0 [43, 184, 0, 17, 172] [] 17 := by
  unfold gLamDec
  refine ⟨?_, ?_, ?_, ?_⟩ <;> decide +kernel
theorem lok_14 : gLamOk gSite_14.2.2.2.2 gSite_14.2.1.cls 0 [43, 184, 0, 17, 172] [] [] 17 14 13 16 yX1_lambda_roomOf_13 := by
  unfold gLamOk
  refine ⟨?_, ?_, ?_, ?_, ?_, ?_, ?_, ?_, ?_, ?_, ?_, ?_, ?_, ?_⟩ <;> decide +kernel
theorem ldec_14 : gLamDec 0 [43, 184, 0, 17, 172] [] 17 := by
  unfold gLamDec
  refine ⟨?_, ?_, ?_, ?_⟩ <;> decide +kernel
theorem lok_15 : gLamOk gSite_15.2.2.2.2 gSite_15.2.1.cls 0 [43, 184, 0, 17, 172] [] [] 17 14 13 16 yX1_lambda_wage_14 := by
  unfold gLamOk
  refine ⟨?_, ?_, ?_, ?_, ?_, ?_, ?_, ?_, ?_, ?_, ?_, ?_, ?_, ?_⟩ <;> decide +kernel
theorem ldec_15 : gLamDec 0 [43, 184, 0, 17, 172] [] 17 := by
  unfold gLamDec
  refine ⟨?_, ?_, ?_, ?_⟩ <;> decide +kernel
theorem lok_16 : gLamOk gSite_16.2.2.2.2 gSite_16.2.1.cls 0 [43, 184, 0, 17, 172] [] [] 17 14 13 16 yX1_lambda_effort_15 := by
  unfold gLamOk
  refine ⟨?_, ?_, ?_, ?_, ?_, ?_, ?_, ?_, ?_, ?_, ?_, ?_, ?_, ?_⟩ <;> decide +kernel
theorem ldec_16 : gLamDec 0 [43, 184, 0, 17, 172] [] 17 := by
  unfold gLamDec
  refine ⟨?_, ?_, ?_, ?_⟩ <;> decide +kernel
theorem lok_17 : gLamOk gSite_17.2.2.2.2 gSite_17.2.1.cls 4 [42, 180, 0, 18, 42, 180, 0, 20, 42, 180, 0, 22, 42, 180, 0, 24, 43, 184, 0, 32, 172] [18, 20, 22, 24] [17, 19, 21, 23] 32 28 27 31 yX15_lambda_change_9 := by
  unfold gLamOk
  refine ⟨?_, ?_, ?_, ?_, ?_, ?_, ?_, ?_, ?_, ?_, ?_, ?_, ?_, ?_⟩ <;> decide +kernel
theorem ldec_17 : gLamDec 4 [42, 180, 0, 18, 42, 180, 0, 20, 42, 180, 0, 22, 42, 180, 0, 24, 43, 184, 0, 32, 172] [18, 20, 22, 24] 32 := by
  unfold gLamDec
  refine ⟨?_, ?_, ?_, ?_⟩ <;> decide +kernel
theorem lok_18 : gLamOk gSite_18.2.2.2.2 gSite_18.2.1.cls 2 [42, 180, 0, 16, 42, 180, 0, 18, 43, 184, 0, 26, 172] [16, 18] [15, 17] 26 22 21 25 yX15_lambda_change_10 := by
  unfold gLamOk
  refine ⟨?_, ?_, ?_, ?_, ?_, ?_, ?_, ?_, ?_, ?_, ?_, ?_, ?_, ?_⟩ <;> decide +kernel
theorem ldec_18 : gLamDec 2 [42, 180, 0, 16, 42, 180, 0, 18, 43, 184, 0, 26, 172] [16, 18] 26 := by
  unfold gLamDec
  refine ⟨?_, ?_, ?_, ?_⟩ <;> decide +kernel
theorem lok_19 : gLamOk gSite_19.2.2.2.2 gSite_19.2.1.cls 1 [42, 180, 0, 15, 43, 184, 0, 23, 172] [15] [14] 23 19 18 22 yX15_lambda_change_11 := by
  unfold gLamOk
  refine ⟨?_, ?_, ?_, ?_, ?_, ?_, ?_, ?_, ?_, ?_, ?_, ?_, ?_, ?_⟩ <;> decide +kernel
theorem ldec_19 : gLamDec 1 [42, 180, 0, 15, 43, 184, 0, 23, 172] [15] 23 := by
  unfold gLamDec
  refine ⟨?_, ?_, ?_, ?_⟩ <;> decide +kernel
theorem lok_20 : gLamOk gSite_20.2.2.2.2 gSite_20.2.1.cls 1 [42, 180, 0, 15, 43, 184, 0, 23, 172] [15] [14] 23 19 18 22 yX15_lambda_oneArgument_0 := by
  unfold gLamOk
  refine ⟨?_, ?_, ?_, ?_, ?_, ?_, ?_, ?_, ?_, ?_, ?_, ?_, ?_, ?_⟩ <;> decide +kernel
theorem ldec_20 : gLamDec 1 [42, 180, 0, 15, 43, 184, 0, 23, 172] [15] 23 := by
  unfold gLamDec
  refine ⟨?_, ?_, ?_, ?_⟩ <;> decide +kernel
theorem lok_21 : gLamOk gSite_21.2.2.2.2 gSite_21.2.1.cls 1 [42, 180, 0, 15, 43, 184, 0, 23, 172] [15] [14] 23 19 18 22 yX15_lambda_oneArgument_1 := by
  unfold gLamOk
  refine ⟨?_, ?_, ?_, ?_, ?_, ?_, ?_, ?_, ?_, ?_, ?_, ?_, ?_, ?_⟩ <;> decide +kernel
theorem ldec_21 : gLamDec 1 [42, 180, 0, 15, 43, 184, 0, 23, 172] [15] 23 := by
  unfold gLamDec
  refine ⟨?_, ?_, ?_, ?_⟩ <;> decide +kernel
theorem lok_22 : gLamOk gSite_22.2.2.2.2 gSite_22.2.1.cls 1 [42, 180, 0, 15, 43, 184, 0, 23, 172] [15] [14] 23 19 18 22 yX15_lambda_oneArgument_2 := by
  unfold gLamOk
  refine ⟨?_, ?_, ?_, ?_, ?_, ?_, ?_, ?_, ?_, ?_, ?_, ?_, ?_, ?_⟩ <;> decide +kernel
theorem ldec_22 : gLamDec 1 [42, 180, 0, 15, 43, 184, 0, 23, 172] [15] 23 := by
  unfold gLamDec
  refine ⟨?_, ?_, ?_, ?_⟩ <;> decide +kernel
theorem lok_23 : gLamOk gSite_23.2.2.2.2 gSite_23.2.1.cls 1 [42, 180, 0, 15, 43, 184, 0, 23, 172] [15] [14] 23 19 18 22 yX15_lambda_oneArgument_3 := by
  unfold gLamOk
  refine ⟨?_, ?_, ?_, ?_, ?_, ?_, ?_, ?_, ?_, ?_, ?_, ?_, ?_, ?_⟩ <;> decide +kernel
theorem ldec_23 : gLamDec 1 [42, 180, 0, 15, 43, 184, 0, 23, 172] [15] 23 := by
  unfold gLamDec
  refine ⟨?_, ?_, ?_, ?_⟩ <;> decide +kernel
theorem lok_24 : gLamOk gSite_24.2.2.2.2 gSite_24.2.1.cls 1 [42, 180, 0, 15, 43, 184, 0, 23, 172] [15] [14] 23 19 18 22 yX15_lambda_oneArgument_4 := by
  unfold gLamOk
  refine ⟨?_, ?_, ?_, ?_, ?_, ?_, ?_, ?_, ?_, ?_, ?_, ?_, ?_, ?_⟩ <;> decide +kernel
theorem ldec_24 : gLamDec 1 [42, 180, 0, 15, 43, 184, 0, 23, 172] [15] 23 := by
  unfold gLamDec
  refine ⟨?_, ?_, ?_, ?_⟩ <;> decide +kernel
theorem lok_25 : gLamOk gSite_25.2.2.2.2 gSite_25.2.1.cls 1 [42, 180, 0, 15, 43, 184, 0, 23, 172] [15] [14] 23 19 18 22 yX15_lambda_oneArgument_5 := by
  unfold gLamOk
  refine ⟨?_, ?_, ?_, ?_, ?_, ?_, ?_, ?_, ?_, ?_, ?_, ?_, ?_, ?_⟩ <;> decide +kernel
theorem ldec_25 : gLamDec 1 [42, 180, 0, 15, 43, 184, 0, 23, 172] [15] 23 := by
  unfold gLamDec
  refine ⟨?_, ?_, ?_, ?_⟩ <;> decide +kernel
theorem lok_26 : gLamOk gSite_26.2.2.2.2 gSite_26.2.1.cls 1 [42, 180, 0, 15, 43, 184, 0, 23, 172] [15] [14] 23 19 18 22 yX15_lambda_oneArgument_6 := by
  unfold gLamOk
  refine ⟨?_, ?_, ?_, ?_, ?_, ?_, ?_, ?_, ?_, ?_, ?_, ?_, ?_, ?_⟩ <;> decide +kernel
theorem ldec_26 : gLamDec 1 [42, 180, 0, 15, 43, 184, 0, 23, 172] [15] 23 := by
  unfold gLamDec
  refine ⟨?_, ?_, ?_, ?_⟩ <;> decide +kernel
theorem lok_27 : gLamOk gSite_27.2.2.2.2 gSite_27.2.1.cls 1 [42, 180, 0, 15, 43, 184, 0, 23, 172] [15] [14] 23 19 18 22 yX15_lambda_oneArgument_7 := by
  unfold gLamOk
  refine ⟨?_, ?_, ?_, ?_, ?_, ?_, ?_, ?_, ?_, ?_, ?_, ?_, ?_, ?_⟩ <;> decide +kernel
theorem ldec_27 : gLamDec 1 [42, 180, 0, 15, 43, 184, 0, 23, 172] [15] 23 := by
  unfold gLamDec
  refine ⟨?_, ?_, ?_, ?_⟩ <;> decide +kernel
theorem lok_28 : gLamOk gSite_28.2.2.2.2 gSite_28.2.1.cls 1 [42, 180, 0, 15, 43, 184, 0, 23, 172] [15] [14] 23 19 18 22 yX15_lambda_oneArgument_8 := by
  unfold gLamOk
  refine ⟨?_, ?_, ?_, ?_, ?_, ?_, ?_, ?_, ?_, ?_, ?_, ?_, ?_, ?_⟩ <;> decide +kernel
theorem ldec_28 : gLamDec 1 [42, 180, 0, 15, 43, 184, 0, 23, 172] [15] 23 := by
  unfold gLamDec
  refine ⟨?_, ?_, ?_, ?_⟩ <;> decide +kernel
