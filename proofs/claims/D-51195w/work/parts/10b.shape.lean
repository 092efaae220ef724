/-! THE TWO RULES that 'repairs' makes, as the class file has them -/
set_option maxRecDepth 100000
def zσ1 : Lambda.Shape := { iface := "CountedSkipLists$Rule", name := "finds", sam := ⟨[.object "CountedSkipLists$SkipList"], some (.object "CountedSkipLists$Gap")⟩, captured := [.int], kind := 6, implClass := "CountedSkipLists", implName := "lambda$repairs$0", implDesc := ⟨[.int, .object "CountedSkipLists$SkipList"], some (.object "CountedSkipLists$Gap")⟩, implItf := false, inst := ⟨[.object "CountedSkipLists$SkipList"], some (.object "CountedSkipLists$Gap")⟩ }
def zσ2 : Lambda.Shape := { iface := "CountedSkipLists$Rule", name := "finds", sam := ⟨[.object "CountedSkipLists$SkipList"], some (.object "CountedSkipLists$Gap")⟩, captured := [], kind := 6, implClass := "CountedSkipLists", implName := "lambda$repairs$1", implDesc := ⟨[.object "CountedSkipLists$SkipList"], some (.object "CountedSkipLists$Gap")⟩, implItf := false, inst := ⟨[.object "CountedSkipLists$SkipList"], some (.object "CountedSkipLists$Gap")⟩ }
def zRN : MethodName := ⟨"CountedSkipLists", "repairs", "(LCountedSkipLists$SkipList;ILCountedSkipLists$Journal;)V"⟩
theorem zsite1 : siteWord_1_1 = Cond.lambdaSite zRN 1 54 zσ1 := rfl
theorem zsite2 : siteWord_1_2 = Cond.lambdaSite zRN 7 57 zσ2 := rfl
