/-! what the lambdas' made classes hold (in the manner of the library's ToyCaptured) -/
set_option maxRecDepth 100000
def lm20σ : Lambda.Shape := sgR "lambda$new$0"
def lm20D : ClassFile := (lm20σ.file "ReadingStages").getD { minorVersion := 0, majorVersion := 0, constantPool := #[], accessFlags := 0, thisClass := 0, superClass := 0, interfaces := #[], fields := #[], methods := #[], attributes := #[] }
def lm20f : Method := ((layoutMethods lm20D).bind (·[1]?)).getD default
def lm20l : Array Field × Array FieldType × Array FieldType := (layoutFields lm20D 0).getD (#[], #[], #[])
def lm20c : ByteArray := ⟨#[0x2a, 0xb4, 0x0, 0xf, 0x1b, 0xb6, 0x0, 0x16, 0xac]⟩
theorem lm20_file : lm20σ.file "ReadingStages" = some lm20D := by
  have h : (lm20σ.file "ReadingStages").isSome = true := by decide +kernel
  obtain ⟨x, hx⟩ := Option.isSome_iff_exists.mp h
  simp [lm20D, hx]
theorem lm20_second : ∀ ms, layoutMethods lm20D = some ms → ms[1]? = some lm20f := by
  intro ms hms
  have h : ((layoutMethods lm20D).bind (·[1]?)).isSome = true := by decide +kernel
  obtain ⟨x, hx⟩ := Option.isSome_iff_exists.mp h
  have hf : lm20f = x := by simp [lm20f, hx]
  rw [hms] at hx
  rw [hf]
  exact hx
theorem lm20_laid : layoutFields lm20D 0 = some lm20l := by
  have h : (layoutFields lm20D 0).isSome = true := by decide +kernel
  obtain ⟨x, hx⟩ := Option.isSome_iff_exists.mp h
  simp [lm20l, hx]
theorem lm20_code : (lm20f.code.map fun c => (c.code.data, c.maxLocals)) = some (lm20c.data, 2) := by decide +kernel
theorem lm20_flags : (lm20f.accessFlags, lm20f.name, lm20f.sig.returnType) = (0x0001, "lasts", some FieldType.int) := by decide +kernel
theorem lm20_eM : lm20D.constantPool[22]? = some (.methodref 19 21) ∧ lm20D.constantPool.className? 19 = some "ReadingStages" ∧ lm20D.constantPool.nameAndType? 21 = some ("lambda$new$0", "(I)I") := by decide +kernel
theorem lm20_eC : lm20D.constantPool[19]? = some (.class_ 18) ∧ lm20D.constantPool.string? 18 = some "ReadingStages" ∧ 19 ≠ lm20D.thisClass := by decide +kernel
theorem lm20_eF0 : lm20D.constantPool[15]? = some (.fieldref 2 14) ∧ lm20D.constantPool.nameAndType? 14 = some ("arg$1", "LReadingStages;") ∧ lm20l.1.findIdx? (·.name == "arg$1") = some 0 ∧ (lm20l.1[0]?).map (fun f => (f.isStatic, f.slot)) = some (false, 0) := by decide +kernel
theorem lm20_made {e : Setting} {vm : Vm} {d c : ClassId} {dk : Class} (hd : vm.classes[d]? = some dk) (hname : dk.name = "ReadingStages") (h : Lambda.isMade e vm d (sgR "lambda$new$0") c = true)
    (hO : ∀ o ok, vm.findClass "java/lang/Object" = some o → vm.classes[o]? = some ok → ok.instanceTypes.size = 0) :
    ∃ (k tk : Class) (file : ClassFile) (methk : Method) (ck : Code) (toy : ClassId) (t : MethodId) (f0 : Field),
      vm.classes[c]? = some k ∧ k.name = "ReadingStages$$Lambda" ∧ k.cf = some file ∧ file.constantPool = lm20D.constantPool ∧
      vm.method? ⟨c, 1⟩ = some methk ∧ methk.code = some ck ∧ ck.code = lm20c ∧ ck.maxLocals = 2 ∧ methk.locks = false ∧ methk.accessFlags = 0x0001 ∧ methk.sig.returnType = some .int ∧
      vm.findClass "ReadingStages" = some toy ∧ vm.classes[toy]? = some tk ∧ tk.isInterface = false ∧ ((methodIn toy "lambda$new$0" "(I)I" tk.isInterface none).ask e vm).1 = .ok t ∧
      vm.methodReady c 22 t ∧ vm.classReady c 19 toy ∧ vm.fieldReady c 15 c f0 ∧ f0.isStatic = false ∧ f0.slot = 0 := by
  obtain ⟨dk', k, ok, tk, file, cf, object, iface, toy, lay, methods, target, found, hd', hk, hfile, hcf, hobj, -, hok, hlay, hms, ht, htk, hg, -, hrec, -, -, -, hitf, hpool, hmeth, hfields, -, hres, -⟩ := Lambda.isMade_spec h
  cases hd.symm.trans hd'
  have hcf : lm20σ.file "ReadingStages" = some cf := by rw [← hname]; exact hcf
  rw [lm20_file] at hcf
  cases hcf
  rw [hO object ok hobj hok, lm20_laid] at hlay
  cases hlay
  obtain ⟨b, hb, hsame⟩ := hmeth 1 lm20f (lm20_second methods hms)
  simp only [Lambda.sameMethod, Bool.and_eq_true, decide_eq_true_eq] at hsame
  obtain ⟨⟨hn, -, hsig, hfl⟩, hcode⟩ := hsame
  have fc := lm20_code
  have ff := lm20_flags
  simp only [Prod.mk.injEq] at ff
  obtain ⟨g0, hg0, hp0⟩ := Option.map_eq_some_iff.mp lm20_eF0.2.2.2
  simp only [Prod.mk.injEq] at hp0
  cases hfc : lm20f.code with
  | none => rw [hfc] at fc; cases fc
  | some x =>
    cases hbc : b.code with
    | none => simp [hfc, hbc] at hcode
    | some y =>
      simp only [hfc, hbc, Bool.and_eq_true, decide_eq_true_eq] at hcode
      simp only [hfc, Option.map_some, Option.some.injEq, Prod.mk.injEq] at fc
      refine ⟨k, tk, file, b, y, toy, target, g0, hk, by rw [hrec.1, hname]; rfl, hfile, hpool.2.1, by simp [Vm.method?, hk, hb], hbc, ?_, by rw [← hcode.1.1.1.1.2.1]; exact fc.2, ?_, by rw [← hfl]; exact ff.1, by rw [← hsig]; exact ff.2.2, ht, htk, hitf, hg,
        ⟨k, hk, hres 22 _ (Lambda.resolvedOf_method lm20_eM.1 lm20_eM.2.1 ht htk lm20_eM.2.2 hg)⟩, ⟨k, hk, hres 19 _ (Lambda.resolvedOf_class lm20_eC.1 lm20_eC.2.2 lm20_eC.2.1 ht)⟩, ⟨k, 0, k, hk, hres 15 _ (Lambda.resolvedOf_field lm20_eF0.1 lm20_eF0.2.1 lm20_eF0.2.2.1), hk, hfields 0 _ hg0⟩, hp0.1, hp0.2⟩
      · rw [← hcode.1.1.1.1.2.2]
        exact ByteArray.ext fc.1
      · simp [Method.locks, Method.isSynchronized, ← hfl, ff.1, hasFlag, Acc.synchronized]
def lm21σ : Lambda.Shape := sgR "lambda$new$1"
def lm21D : ClassFile := (lm21σ.file "ReadingStages").getD { minorVersion := 0, majorVersion := 0, constantPool := #[], accessFlags := 0, thisClass := 0, superClass := 0, interfaces := #[], fields := #[], methods := #[], attributes := #[] }
def lm21f : Method := ((layoutMethods lm21D).bind (·[1]?)).getD default
def lm21l : Array Field × Array FieldType × Array FieldType := (layoutFields lm21D 0).getD (#[], #[], #[])
def lm21c : ByteArray := ⟨#[0x2a, 0xb4, 0x0, 0xf, 0x1b, 0xb6, 0x0, 0x16, 0xac]⟩
theorem lm21_file : lm21σ.file "ReadingStages" = some lm21D := by
  have h : (lm21σ.file "ReadingStages").isSome = true := by decide +kernel
  obtain ⟨x, hx⟩ := Option.isSome_iff_exists.mp h
  simp [lm21D, hx]
theorem lm21_second : ∀ ms, layoutMethods lm21D = some ms → ms[1]? = some lm21f := by
  intro ms hms
  have h : ((layoutMethods lm21D).bind (·[1]?)).isSome = true := by decide +kernel
  obtain ⟨x, hx⟩ := Option.isSome_iff_exists.mp h
  have hf : lm21f = x := by simp [lm21f, hx]
  rw [hms] at hx
  rw [hf]
  exact hx
theorem lm21_laid : layoutFields lm21D 0 = some lm21l := by
  have h : (layoutFields lm21D 0).isSome = true := by decide +kernel
  obtain ⟨x, hx⟩ := Option.isSome_iff_exists.mp h
  simp [lm21l, hx]
theorem lm21_code : (lm21f.code.map fun c => (c.code.data, c.maxLocals)) = some (lm21c.data, 2) := by decide +kernel
theorem lm21_flags : (lm21f.accessFlags, lm21f.name, lm21f.sig.returnType) = (0x0001, "lasts", some FieldType.int) := by decide +kernel
theorem lm21_eM : lm21D.constantPool[22]? = some (.methodref 19 21) ∧ lm21D.constantPool.className? 19 = some "ReadingStages" ∧ lm21D.constantPool.nameAndType? 21 = some ("lambda$new$1", "(I)I") := by decide +kernel
theorem lm21_eC : lm21D.constantPool[19]? = some (.class_ 18) ∧ lm21D.constantPool.string? 18 = some "ReadingStages" ∧ 19 ≠ lm21D.thisClass := by decide +kernel
theorem lm21_eF0 : lm21D.constantPool[15]? = some (.fieldref 2 14) ∧ lm21D.constantPool.nameAndType? 14 = some ("arg$1", "LReadingStages;") ∧ lm21l.1.findIdx? (·.name == "arg$1") = some 0 ∧ (lm21l.1[0]?).map (fun f => (f.isStatic, f.slot)) = some (false, 0) := by decide +kernel
theorem lm21_made {e : Setting} {vm : Vm} {d c : ClassId} {dk : Class} (hd : vm.classes[d]? = some dk) (hname : dk.name = "ReadingStages") (h : Lambda.isMade e vm d (sgR "lambda$new$1") c = true)
    (hO : ∀ o ok, vm.findClass "java/lang/Object" = some o → vm.classes[o]? = some ok → ok.instanceTypes.size = 0) :
    ∃ (k tk : Class) (file : ClassFile) (methk : Method) (ck : Code) (toy : ClassId) (t : MethodId) (f0 : Field),
      vm.classes[c]? = some k ∧ k.name = "ReadingStages$$Lambda" ∧ k.cf = some file ∧ file.constantPool = lm21D.constantPool ∧
      vm.method? ⟨c, 1⟩ = some methk ∧ methk.code = some ck ∧ ck.code = lm21c ∧ ck.maxLocals = 2 ∧ methk.locks = false ∧ methk.accessFlags = 0x0001 ∧ methk.sig.returnType = some .int ∧
      vm.findClass "ReadingStages" = some toy ∧ vm.classes[toy]? = some tk ∧ tk.isInterface = false ∧ ((methodIn toy "lambda$new$1" "(I)I" tk.isInterface none).ask e vm).1 = .ok t ∧
      vm.methodReady c 22 t ∧ vm.classReady c 19 toy ∧ vm.fieldReady c 15 c f0 ∧ f0.isStatic = false ∧ f0.slot = 0 := by
  obtain ⟨dk', k, ok, tk, file, cf, object, iface, toy, lay, methods, target, found, hd', hk, hfile, hcf, hobj, -, hok, hlay, hms, ht, htk, hg, -, hrec, -, -, -, hitf, hpool, hmeth, hfields, -, hres, -⟩ := Lambda.isMade_spec h
  cases hd.symm.trans hd'
  have hcf : lm21σ.file "ReadingStages" = some cf := by rw [← hname]; exact hcf
  rw [lm21_file] at hcf
  cases hcf
  rw [hO object ok hobj hok, lm21_laid] at hlay
  cases hlay
  obtain ⟨b, hb, hsame⟩ := hmeth 1 lm21f (lm21_second methods hms)
  simp only [Lambda.sameMethod, Bool.and_eq_true, decide_eq_true_eq] at hsame
  obtain ⟨⟨hn, -, hsig, hfl⟩, hcode⟩ := hsame
  have fc := lm21_code
  have ff := lm21_flags
  simp only [Prod.mk.injEq] at ff
  obtain ⟨g0, hg0, hp0⟩ := Option.map_eq_some_iff.mp lm21_eF0.2.2.2
  simp only [Prod.mk.injEq] at hp0
  cases hfc : lm21f.code with
  | none => rw [hfc] at fc; cases fc
  | some x =>
    cases hbc : b.code with
    | none => simp [hfc, hbc] at hcode
    | some y =>
      simp only [hfc, hbc, Bool.and_eq_true, decide_eq_true_eq] at hcode
      simp only [hfc, Option.map_some, Option.some.injEq, Prod.mk.injEq] at fc
      refine ⟨k, tk, file, b, y, toy, target, g0, hk, by rw [hrec.1, hname]; rfl, hfile, hpool.2.1, by simp [Vm.method?, hk, hb], hbc, ?_, by rw [← hcode.1.1.1.1.2.1]; exact fc.2, ?_, by rw [← hfl]; exact ff.1, by rw [← hsig]; exact ff.2.2, ht, htk, hitf, hg,
        ⟨k, hk, hres 22 _ (Lambda.resolvedOf_method lm21_eM.1 lm21_eM.2.1 ht htk lm21_eM.2.2 hg)⟩, ⟨k, hk, hres 19 _ (Lambda.resolvedOf_class lm21_eC.1 lm21_eC.2.2 lm21_eC.2.1 ht)⟩, ⟨k, 0, k, hk, hres 15 _ (Lambda.resolvedOf_field lm21_eF0.1 lm21_eF0.2.1 lm21_eF0.2.2.1), hk, hfields 0 _ hg0⟩, hp0.1, hp0.2⟩
      · rw [← hcode.1.1.1.1.2.2]
        exact ByteArray.ext fc.1
      · simp [Method.locks, Method.isSynchronized, ← hfl, ff.1, hasFlag, Acc.synchronized]
def lm22σ : Lambda.Shape := sgR "lambda$new$2"
def lm22D : ClassFile := (lm22σ.file "ReadingStages").getD { minorVersion := 0, majorVersion := 0, constantPool := #[], accessFlags := 0, thisClass := 0, superClass := 0, interfaces := #[], fields := #[], methods := #[], attributes := #[] }
def lm22f : Method := ((layoutMethods lm22D).bind (·[1]?)).getD default
def lm22l : Array Field × Array FieldType × Array FieldType := (layoutFields lm22D 0).getD (#[], #[], #[])
def lm22c : ByteArray := ⟨#[0x2a, 0xb4, 0x0, 0xf, 0x1b, 0xb6, 0x0, 0x16, 0xac]⟩
theorem lm22_file : lm22σ.file "ReadingStages" = some lm22D := by
  have h : (lm22σ.file "ReadingStages").isSome = true := by decide +kernel
  obtain ⟨x, hx⟩ := Option.isSome_iff_exists.mp h
  simp [lm22D, hx]
theorem lm22_second : ∀ ms, layoutMethods lm22D = some ms → ms[1]? = some lm22f := by
  intro ms hms
  have h : ((layoutMethods lm22D).bind (·[1]?)).isSome = true := by decide +kernel
  obtain ⟨x, hx⟩ := Option.isSome_iff_exists.mp h
  have hf : lm22f = x := by simp [lm22f, hx]
  rw [hms] at hx
  rw [hf]
  exact hx
theorem lm22_laid : layoutFields lm22D 0 = some lm22l := by
  have h : (layoutFields lm22D 0).isSome = true := by decide +kernel
  obtain ⟨x, hx⟩ := Option.isSome_iff_exists.mp h
  simp [lm22l, hx]
theorem lm22_code : (lm22f.code.map fun c => (c.code.data, c.maxLocals)) = some (lm22c.data, 2) := by decide +kernel
theorem lm22_flags : (lm22f.accessFlags, lm22f.name, lm22f.sig.returnType) = (0x0001, "lasts", some FieldType.int) := by decide +kernel
theorem lm22_eM : lm22D.constantPool[22]? = some (.methodref 19 21) ∧ lm22D.constantPool.className? 19 = some "ReadingStages" ∧ lm22D.constantPool.nameAndType? 21 = some ("lambda$new$2", "(I)I") := by decide +kernel
theorem lm22_eC : lm22D.constantPool[19]? = some (.class_ 18) ∧ lm22D.constantPool.string? 18 = some "ReadingStages" ∧ 19 ≠ lm22D.thisClass := by decide +kernel
theorem lm22_eF0 : lm22D.constantPool[15]? = some (.fieldref 2 14) ∧ lm22D.constantPool.nameAndType? 14 = some ("arg$1", "LReadingStages;") ∧ lm22l.1.findIdx? (·.name == "arg$1") = some 0 ∧ (lm22l.1[0]?).map (fun f => (f.isStatic, f.slot)) = some (false, 0) := by decide +kernel
theorem lm22_made {e : Setting} {vm : Vm} {d c : ClassId} {dk : Class} (hd : vm.classes[d]? = some dk) (hname : dk.name = "ReadingStages") (h : Lambda.isMade e vm d (sgR "lambda$new$2") c = true)
    (hO : ∀ o ok, vm.findClass "java/lang/Object" = some o → vm.classes[o]? = some ok → ok.instanceTypes.size = 0) :
    ∃ (k tk : Class) (file : ClassFile) (methk : Method) (ck : Code) (toy : ClassId) (t : MethodId) (f0 : Field),
      vm.classes[c]? = some k ∧ k.name = "ReadingStages$$Lambda" ∧ k.cf = some file ∧ file.constantPool = lm22D.constantPool ∧
      vm.method? ⟨c, 1⟩ = some methk ∧ methk.code = some ck ∧ ck.code = lm22c ∧ ck.maxLocals = 2 ∧ methk.locks = false ∧ methk.accessFlags = 0x0001 ∧ methk.sig.returnType = some .int ∧
      vm.findClass "ReadingStages" = some toy ∧ vm.classes[toy]? = some tk ∧ tk.isInterface = false ∧ ((methodIn toy "lambda$new$2" "(I)I" tk.isInterface none).ask e vm).1 = .ok t ∧
      vm.methodReady c 22 t ∧ vm.classReady c 19 toy ∧ vm.fieldReady c 15 c f0 ∧ f0.isStatic = false ∧ f0.slot = 0 := by
  obtain ⟨dk', k, ok, tk, file, cf, object, iface, toy, lay, methods, target, found, hd', hk, hfile, hcf, hobj, -, hok, hlay, hms, ht, htk, hg, -, hrec, -, -, -, hitf, hpool, hmeth, hfields, -, hres, -⟩ := Lambda.isMade_spec h
  cases hd.symm.trans hd'
  have hcf : lm22σ.file "ReadingStages" = some cf := by rw [← hname]; exact hcf
  rw [lm22_file] at hcf
  cases hcf
  rw [hO object ok hobj hok, lm22_laid] at hlay
  cases hlay
  obtain ⟨b, hb, hsame⟩ := hmeth 1 lm22f (lm22_second methods hms)
  simp only [Lambda.sameMethod, Bool.and_eq_true, decide_eq_true_eq] at hsame
  obtain ⟨⟨hn, -, hsig, hfl⟩, hcode⟩ := hsame
  have fc := lm22_code
  have ff := lm22_flags
  simp only [Prod.mk.injEq] at ff
  obtain ⟨g0, hg0, hp0⟩ := Option.map_eq_some_iff.mp lm22_eF0.2.2.2
  simp only [Prod.mk.injEq] at hp0
  cases hfc : lm22f.code with
  | none => rw [hfc] at fc; cases fc
  | some x =>
    cases hbc : b.code with
    | none => simp [hfc, hbc] at hcode
    | some y =>
      simp only [hfc, hbc, Bool.and_eq_true, decide_eq_true_eq] at hcode
      simp only [hfc, Option.map_some, Option.some.injEq, Prod.mk.injEq] at fc
      refine ⟨k, tk, file, b, y, toy, target, g0, hk, by rw [hrec.1, hname]; rfl, hfile, hpool.2.1, by simp [Vm.method?, hk, hb], hbc, ?_, by rw [← hcode.1.1.1.1.2.1]; exact fc.2, ?_, by rw [← hfl]; exact ff.1, by rw [← hsig]; exact ff.2.2, ht, htk, hitf, hg,
        ⟨k, hk, hres 22 _ (Lambda.resolvedOf_method lm22_eM.1 lm22_eM.2.1 ht htk lm22_eM.2.2 hg)⟩, ⟨k, hk, hres 19 _ (Lambda.resolvedOf_class lm22_eC.1 lm22_eC.2.2 lm22_eC.2.1 ht)⟩, ⟨k, 0, k, hk, hres 15 _ (Lambda.resolvedOf_field lm22_eF0.1 lm22_eF0.2.1 lm22_eF0.2.2.1), hk, hfields 0 _ hg0⟩, hp0.1, hp0.2⟩
      · rw [← hcode.1.1.1.1.2.2]
        exact ByteArray.ext fc.1
      · simp [Method.locks, Method.isSynchronized, ← hfl, ff.1, hasFlag, Acc.synchronized]
def lm23σ : Lambda.Shape := sgA "lambda$layBest$3" [.object "ReadingStages"] [.object "ReadingStages$Shelf"]
def lm23D : ClassFile := (lm23σ.file "ReadingStages").getD { minorVersion := 0, majorVersion := 0, constantPool := #[], accessFlags := 0, thisClass := 0, superClass := 0, interfaces := #[], fields := #[], methods := #[], attributes := #[] }
def lm23f : Method := ((layoutMethods lm23D).bind (·[1]?)).getD default
def lm23l : Array Field × Array FieldType × Array FieldType := (layoutFields lm23D 0).getD (#[], #[], #[])
def lm23c : ByteArray := ⟨#[0x2a, 0xb4, 0x0, 0xf, 0x2b, 0xb6, 0x0, 0x16, 0xac]⟩
theorem lm23_file : lm23σ.file "ReadingStages" = some lm23D := by
  have h : (lm23σ.file "ReadingStages").isSome = true := by decide +kernel
  obtain ⟨x, hx⟩ := Option.isSome_iff_exists.mp h
  simp [lm23D, hx]
theorem lm23_second : ∀ ms, layoutMethods lm23D = some ms → ms[1]? = some lm23f := by
  intro ms hms
  have h : ((layoutMethods lm23D).bind (·[1]?)).isSome = true := by decide +kernel
  obtain ⟨x, hx⟩ := Option.isSome_iff_exists.mp h
  have hf : lm23f = x := by simp [lm23f, hx]
  rw [hms] at hx
  rw [hf]
  exact hx
theorem lm23_laid : layoutFields lm23D 0 = some lm23l := by
  have h : (layoutFields lm23D 0).isSome = true := by decide +kernel
  obtain ⟨x, hx⟩ := Option.isSome_iff_exists.mp h
  simp [lm23l, hx]
theorem lm23_code : (lm23f.code.map fun c => (c.code.data, c.maxLocals)) = some (lm23c.data, 2) := by decide +kernel
theorem lm23_flags : (lm23f.accessFlags, lm23f.name, lm23f.sig.returnType) = (0x0001, "goesOn", some FieldType.boolean) := by decide +kernel
theorem lm23_eM : lm23D.constantPool[22]? = some (.methodref 19 21) ∧ lm23D.constantPool.className? 19 = some "ReadingStages" ∧ lm23D.constantPool.nameAndType? 21 = some ("lambda$layBest$3", "(LReadingStages$Shelf;)Z") := by decide +kernel
theorem lm23_eC : lm23D.constantPool[19]? = some (.class_ 18) ∧ lm23D.constantPool.string? 18 = some "ReadingStages" ∧ 19 ≠ lm23D.thisClass := by decide +kernel
theorem lm23_eF0 : lm23D.constantPool[15]? = some (.fieldref 2 14) ∧ lm23D.constantPool.nameAndType? 14 = some ("arg$1", "LReadingStages;") ∧ lm23l.1.findIdx? (·.name == "arg$1") = some 0 ∧ (lm23l.1[0]?).map (fun f => (f.isStatic, f.slot)) = some (false, 0) := by decide +kernel
theorem lm23_made {e : Setting} {vm : Vm} {d c : ClassId} {dk : Class} (hd : vm.classes[d]? = some dk) (hname : dk.name = "ReadingStages") (h : Lambda.isMade e vm d (sgA "lambda$layBest$3" [.object "ReadingStages"] [.object "ReadingStages$Shelf"]) c = true)
    (hO : ∀ o ok, vm.findClass "java/lang/Object" = some o → vm.classes[o]? = some ok → ok.instanceTypes.size = 0) :
    ∃ (k tk : Class) (file : ClassFile) (methk : Method) (ck : Code) (toy : ClassId) (t : MethodId) (f0 : Field),
      vm.classes[c]? = some k ∧ k.name = "ReadingStages$$Lambda" ∧ k.cf = some file ∧ file.constantPool = lm23D.constantPool ∧
      vm.method? ⟨c, 1⟩ = some methk ∧ methk.code = some ck ∧ ck.code = lm23c ∧ ck.maxLocals = 2 ∧ methk.locks = false ∧ methk.accessFlags = 0x0001 ∧ methk.sig.returnType = some .boolean ∧
      vm.findClass "ReadingStages" = some toy ∧ vm.classes[toy]? = some tk ∧ tk.isInterface = false ∧ ((methodIn toy "lambda$layBest$3" "(LReadingStages$Shelf;)Z" tk.isInterface none).ask e vm).1 = .ok t ∧
      vm.methodReady c 22 t ∧ vm.classReady c 19 toy ∧ vm.fieldReady c 15 c f0 ∧ f0.isStatic = false ∧ f0.slot = 0 := by
  obtain ⟨dk', k, ok, tk, file, cf, object, iface, toy, lay, methods, target, found, hd', hk, hfile, hcf, hobj, -, hok, hlay, hms, ht, htk, hg, -, hrec, -, -, -, hitf, hpool, hmeth, hfields, -, hres, -⟩ := Lambda.isMade_spec h
  cases hd.symm.trans hd'
  have hcf : lm23σ.file "ReadingStages" = some cf := by rw [← hname]; exact hcf
  rw [lm23_file] at hcf
  cases hcf
  rw [hO object ok hobj hok, lm23_laid] at hlay
  cases hlay
  obtain ⟨b, hb, hsame⟩ := hmeth 1 lm23f (lm23_second methods hms)
  simp only [Lambda.sameMethod, Bool.and_eq_true, decide_eq_true_eq] at hsame
  obtain ⟨⟨hn, -, hsig, hfl⟩, hcode⟩ := hsame
  have fc := lm23_code
  have ff := lm23_flags
  simp only [Prod.mk.injEq] at ff
  obtain ⟨g0, hg0, hp0⟩ := Option.map_eq_some_iff.mp lm23_eF0.2.2.2
  simp only [Prod.mk.injEq] at hp0
  cases hfc : lm23f.code with
  | none => rw [hfc] at fc; cases fc
  | some x =>
    cases hbc : b.code with
    | none => simp [hfc, hbc] at hcode
    | some y =>
      simp only [hfc, hbc, Bool.and_eq_true, decide_eq_true_eq] at hcode
      simp only [hfc, Option.map_some, Option.some.injEq, Prod.mk.injEq] at fc
      refine ⟨k, tk, file, b, y, toy, target, g0, hk, by rw [hrec.1, hname]; rfl, hfile, hpool.2.1, by simp [Vm.method?, hk, hb], hbc, ?_, by rw [← hcode.1.1.1.1.2.1]; exact fc.2, ?_, by rw [← hfl]; exact ff.1, by rw [← hsig]; exact ff.2.2, ht, htk, hitf, hg,
        ⟨k, hk, hres 22 _ (Lambda.resolvedOf_method lm23_eM.1 lm23_eM.2.1 ht htk lm23_eM.2.2 hg)⟩, ⟨k, hk, hres 19 _ (Lambda.resolvedOf_class lm23_eC.1 lm23_eC.2.2 lm23_eC.2.1 ht)⟩, ⟨k, 0, k, hk, hres 15 _ (Lambda.resolvedOf_field lm23_eF0.1 lm23_eF0.2.1 lm23_eF0.2.2.1), hk, hfields 0 _ hg0⟩, hp0.1, hp0.2⟩
      · rw [← hcode.1.1.1.1.2.2]
        exact ByteArray.ext fc.1
      · simp [Method.locks, Method.isSynchronized, ← hfl, ff.1, hasFlag, Acc.synchronized]
def lm24σ : Lambda.Shape := sgA "lambda$many$4" [.object "ReadingStages", .int] [.int, .object "ReadingStages$Shelf"]
def lm24D : ClassFile := (lm24σ.file "ReadingStages").getD { minorVersion := 0, majorVersion := 0, constantPool := #[], accessFlags := 0, thisClass := 0, superClass := 0, interfaces := #[], fields := #[], methods := #[], attributes := #[] }
def lm24f : Method := ((layoutMethods lm24D).bind (·[1]?)).getD default
def lm24l : Array Field × Array FieldType × Array FieldType := (layoutFields lm24D 0).getD (#[], #[], #[])
def lm24c : ByteArray := ⟨#[0x2a, 0xb4, 0x0, 0x11, 0x2a, 0xb4, 0x0, 0x13, 0x2b, 0xb6, 0x0, 0x1b, 0xac]⟩
theorem lm24_file : lm24σ.file "ReadingStages" = some lm24D := by
  have h : (lm24σ.file "ReadingStages").isSome = true := by decide +kernel
  obtain ⟨x, hx⟩ := Option.isSome_iff_exists.mp h
  simp [lm24D, hx]
theorem lm24_second : ∀ ms, layoutMethods lm24D = some ms → ms[1]? = some lm24f := by
  intro ms hms
  have h : ((layoutMethods lm24D).bind (·[1]?)).isSome = true := by decide +kernel
  obtain ⟨x, hx⟩ := Option.isSome_iff_exists.mp h
  have hf : lm24f = x := by simp [lm24f, hx]
  rw [hms] at hx
  rw [hf]
  exact hx
theorem lm24_laid : layoutFields lm24D 0 = some lm24l := by
  have h : (layoutFields lm24D 0).isSome = true := by decide +kernel
  obtain ⟨x, hx⟩ := Option.isSome_iff_exists.mp h
  simp [lm24l, hx]
theorem lm24_code : (lm24f.code.map fun c => (c.code.data, c.maxLocals)) = some (lm24c.data, 2) := by decide +kernel
theorem lm24_flags : (lm24f.accessFlags, lm24f.name, lm24f.sig.returnType) = (0x0001, "goesOn", some FieldType.boolean) := by decide +kernel
theorem lm24_eM : lm24D.constantPool[27]? = some (.methodref 23 26) ∧ lm24D.constantPool.className? 23 = some "ReadingStages" ∧ lm24D.constantPool.nameAndType? 26 = some ("lambda$many$4", "(ILReadingStages$Shelf;)Z") := by decide +kernel
theorem lm24_eC : lm24D.constantPool[23]? = some (.class_ 22) ∧ lm24D.constantPool.string? 22 = some "ReadingStages" ∧ 23 ≠ lm24D.thisClass := by decide +kernel
theorem lm24_eF0 : lm24D.constantPool[17]? = some (.fieldref 2 16) ∧ lm24D.constantPool.nameAndType? 16 = some ("arg$1", "LReadingStages;") ∧ lm24l.1.findIdx? (·.name == "arg$1") = some 0 ∧ (lm24l.1[0]?).map (fun f => (f.isStatic, f.slot)) = some (false, 0) := by decide +kernel
theorem lm24_eF1 : lm24D.constantPool[19]? = some (.fieldref 2 18) ∧ lm24D.constantPool.nameAndType? 18 = some ("arg$2", "I") ∧ lm24l.1.findIdx? (·.name == "arg$2") = some 1 ∧ (lm24l.1[1]?).map (fun f => (f.isStatic, f.slot)) = some (false, 1) := by decide +kernel
theorem lm24_made {e : Setting} {vm : Vm} {d c : ClassId} {dk : Class} (hd : vm.classes[d]? = some dk) (hname : dk.name = "ReadingStages") (h : Lambda.isMade e vm d (sgA "lambda$many$4" [.object "ReadingStages", .int] [.int, .object "ReadingStages$Shelf"]) c = true)
    (hO : ∀ o ok, vm.findClass "java/lang/Object" = some o → vm.classes[o]? = some ok → ok.instanceTypes.size = 0) :
    ∃ (k tk : Class) (file : ClassFile) (methk : Method) (ck : Code) (toy : ClassId) (t : MethodId) (f0 : Field) (f1 : Field),
      vm.classes[c]? = some k ∧ k.name = "ReadingStages$$Lambda" ∧ k.cf = some file ∧ file.constantPool = lm24D.constantPool ∧
      vm.method? ⟨c, 1⟩ = some methk ∧ methk.code = some ck ∧ ck.code = lm24c ∧ ck.maxLocals = 2 ∧ methk.locks = false ∧ methk.accessFlags = 0x0001 ∧ methk.sig.returnType = some .boolean ∧
      vm.findClass "ReadingStages" = some toy ∧ vm.classes[toy]? = some tk ∧ tk.isInterface = false ∧ ((methodIn toy "lambda$many$4" "(ILReadingStages$Shelf;)Z" tk.isInterface none).ask e vm).1 = .ok t ∧
      vm.methodReady c 27 t ∧ vm.classReady c 23 toy ∧ vm.fieldReady c 17 c f0 ∧ f0.isStatic = false ∧ f0.slot = 0 ∧ vm.fieldReady c 19 c f1 ∧ f1.isStatic = false ∧ f1.slot = 1 := by
  obtain ⟨dk', k, ok, tk, file, cf, object, iface, toy, lay, methods, target, found, hd', hk, hfile, hcf, hobj, -, hok, hlay, hms, ht, htk, hg, -, hrec, -, -, -, hitf, hpool, hmeth, hfields, -, hres, -⟩ := Lambda.isMade_spec h
  cases hd.symm.trans hd'
  have hcf : lm24σ.file "ReadingStages" = some cf := by rw [← hname]; exact hcf
  rw [lm24_file] at hcf
  cases hcf
  rw [hO object ok hobj hok, lm24_laid] at hlay
  cases hlay
  obtain ⟨b, hb, hsame⟩ := hmeth 1 lm24f (lm24_second methods hms)
  simp only [Lambda.sameMethod, Bool.and_eq_true, decide_eq_true_eq] at hsame
  obtain ⟨⟨hn, -, hsig, hfl⟩, hcode⟩ := hsame
  have fc := lm24_code
  have ff := lm24_flags
  simp only [Prod.mk.injEq] at ff
  obtain ⟨g0, hg0, hp0⟩ := Option.map_eq_some_iff.mp lm24_eF0.2.2.2
  simp only [Prod.mk.injEq] at hp0
  obtain ⟨g1, hg1, hp1⟩ := Option.map_eq_some_iff.mp lm24_eF1.2.2.2
  simp only [Prod.mk.injEq] at hp1
  cases hfc : lm24f.code with
  | none => rw [hfc] at fc; cases fc
  | some x =>
    cases hbc : b.code with
    | none => simp [hfc, hbc] at hcode
    | some y =>
      simp only [hfc, hbc, Bool.and_eq_true, decide_eq_true_eq] at hcode
      simp only [hfc, Option.map_some, Option.some.injEq, Prod.mk.injEq] at fc
      refine ⟨k, tk, file, b, y, toy, target, g0, g1, hk, by rw [hrec.1, hname]; rfl, hfile, hpool.2.1, by simp [Vm.method?, hk, hb], hbc, ?_, by rw [← hcode.1.1.1.1.2.1]; exact fc.2, ?_, by rw [← hfl]; exact ff.1, by rw [← hsig]; exact ff.2.2, ht, htk, hitf, hg,
        ⟨k, hk, hres 27 _ (Lambda.resolvedOf_method lm24_eM.1 lm24_eM.2.1 ht htk lm24_eM.2.2 hg)⟩, ⟨k, hk, hres 23 _ (Lambda.resolvedOf_class lm24_eC.1 lm24_eC.2.2 lm24_eC.2.1 ht)⟩, ⟨k, 0, k, hk, hres 17 _ (Lambda.resolvedOf_field lm24_eF0.1 lm24_eF0.2.1 lm24_eF0.2.2.1), hk, hfields 0 _ hg0⟩, hp0.1, hp0.2, ⟨k, 1, k, hk, hres 19 _ (Lambda.resolvedOf_field lm24_eF1.1 lm24_eF1.2.1 lm24_eF1.2.2.1), hk, hfields 1 _ hg1⟩, hp1.1, hp1.2⟩
      · rw [← hcode.1.1.1.1.2.2]
        exact ByteArray.ext fc.1
      · simp [Method.locks, Method.isSynchronized, ← hfl, ff.1, hasFlag, Acc.synchronized]
def lm25σ : Lambda.Shape := sgA "lambda$fit$5" [.object "ReadingStages", .int] [.int, .object "ReadingStages$Shelf"]
def lm25D : ClassFile := (lm25σ.file "ReadingStages").getD { minorVersion := 0, majorVersion := 0, constantPool := #[], accessFlags := 0, thisClass := 0, superClass := 0, interfaces := #[], fields := #[], methods := #[], attributes := #[] }
def lm25f : Method := ((layoutMethods lm25D).bind (·[1]?)).getD default
def lm25l : Array Field × Array FieldType × Array FieldType := (layoutFields lm25D 0).getD (#[], #[], #[])
def lm25c : ByteArray := ⟨#[0x2a, 0xb4, 0x0, 0x11, 0x2a, 0xb4, 0x0, 0x13, 0x2b, 0xb6, 0x0, 0x1b, 0xac]⟩
theorem lm25_file : lm25σ.file "ReadingStages" = some lm25D := by
  have h : (lm25σ.file "ReadingStages").isSome = true := by decide +kernel
  obtain ⟨x, hx⟩ := Option.isSome_iff_exists.mp h
  simp [lm25D, hx]
theorem lm25_second : ∀ ms, layoutMethods lm25D = some ms → ms[1]? = some lm25f := by
  intro ms hms
  have h : ((layoutMethods lm25D).bind (·[1]?)).isSome = true := by decide +kernel
  obtain ⟨x, hx⟩ := Option.isSome_iff_exists.mp h
  have hf : lm25f = x := by simp [lm25f, hx]
  rw [hms] at hx
  rw [hf]
  exact hx
theorem lm25_laid : layoutFields lm25D 0 = some lm25l := by
  have h : (layoutFields lm25D 0).isSome = true := by decide +kernel
  obtain ⟨x, hx⟩ := Option.isSome_iff_exists.mp h
  simp [lm25l, hx]
theorem lm25_code : (lm25f.code.map fun c => (c.code.data, c.maxLocals)) = some (lm25c.data, 2) := by decide +kernel
theorem lm25_flags : (lm25f.accessFlags, lm25f.name, lm25f.sig.returnType) = (0x0001, "goesOn", some FieldType.boolean) := by decide +kernel
theorem lm25_eM : lm25D.constantPool[27]? = some (.methodref 23 26) ∧ lm25D.constantPool.className? 23 = some "ReadingStages" ∧ lm25D.constantPool.nameAndType? 26 = some ("lambda$fit$5", "(ILReadingStages$Shelf;)Z") := by decide +kernel
theorem lm25_eC : lm25D.constantPool[23]? = some (.class_ 22) ∧ lm25D.constantPool.string? 22 = some "ReadingStages" ∧ 23 ≠ lm25D.thisClass := by decide +kernel
theorem lm25_eF0 : lm25D.constantPool[17]? = some (.fieldref 2 16) ∧ lm25D.constantPool.nameAndType? 16 = some ("arg$1", "LReadingStages;") ∧ lm25l.1.findIdx? (·.name == "arg$1") = some 0 ∧ (lm25l.1[0]?).map (fun f => (f.isStatic, f.slot)) = some (false, 0) := by decide +kernel
theorem lm25_eF1 : lm25D.constantPool[19]? = some (.fieldref 2 18) ∧ lm25D.constantPool.nameAndType? 18 = some ("arg$2", "I") ∧ lm25l.1.findIdx? (·.name == "arg$2") = some 1 ∧ (lm25l.1[1]?).map (fun f => (f.isStatic, f.slot)) = some (false, 1) := by decide +kernel
theorem lm25_made {e : Setting} {vm : Vm} {d c : ClassId} {dk : Class} (hd : vm.classes[d]? = some dk) (hname : dk.name = "ReadingStages") (h : Lambda.isMade e vm d (sgA "lambda$fit$5" [.object "ReadingStages", .int] [.int, .object "ReadingStages$Shelf"]) c = true)
    (hO : ∀ o ok, vm.findClass "java/lang/Object" = some o → vm.classes[o]? = some ok → ok.instanceTypes.size = 0) :
    ∃ (k tk : Class) (file : ClassFile) (methk : Method) (ck : Code) (toy : ClassId) (t : MethodId) (f0 : Field) (f1 : Field),
      vm.classes[c]? = some k ∧ k.name = "ReadingStages$$Lambda" ∧ k.cf = some file ∧ file.constantPool = lm25D.constantPool ∧
      vm.method? ⟨c, 1⟩ = some methk ∧ methk.code = some ck ∧ ck.code = lm25c ∧ ck.maxLocals = 2 ∧ methk.locks = false ∧ methk.accessFlags = 0x0001 ∧ methk.sig.returnType = some .boolean ∧
      vm.findClass "ReadingStages" = some toy ∧ vm.classes[toy]? = some tk ∧ tk.isInterface = false ∧ ((methodIn toy "lambda$fit$5" "(ILReadingStages$Shelf;)Z" tk.isInterface none).ask e vm).1 = .ok t ∧
      vm.methodReady c 27 t ∧ vm.classReady c 23 toy ∧ vm.fieldReady c 17 c f0 ∧ f0.isStatic = false ∧ f0.slot = 0 ∧ vm.fieldReady c 19 c f1 ∧ f1.isStatic = false ∧ f1.slot = 1 := by
  obtain ⟨dk', k, ok, tk, file, cf, object, iface, toy, lay, methods, target, found, hd', hk, hfile, hcf, hobj, -, hok, hlay, hms, ht, htk, hg, -, hrec, -, -, -, hitf, hpool, hmeth, hfields, -, hres, -⟩ := Lambda.isMade_spec h
  cases hd.symm.trans hd'
  have hcf : lm25σ.file "ReadingStages" = some cf := by rw [← hname]; exact hcf
  rw [lm25_file] at hcf
  cases hcf
  rw [hO object ok hobj hok, lm25_laid] at hlay
  cases hlay
  obtain ⟨b, hb, hsame⟩ := hmeth 1 lm25f (lm25_second methods hms)
  simp only [Lambda.sameMethod, Bool.and_eq_true, decide_eq_true_eq] at hsame
  obtain ⟨⟨hn, -, hsig, hfl⟩, hcode⟩ := hsame
  have fc := lm25_code
  have ff := lm25_flags
  simp only [Prod.mk.injEq] at ff
  obtain ⟨g0, hg0, hp0⟩ := Option.map_eq_some_iff.mp lm25_eF0.2.2.2
  simp only [Prod.mk.injEq] at hp0
  obtain ⟨g1, hg1, hp1⟩ := Option.map_eq_some_iff.mp lm25_eF1.2.2.2
  simp only [Prod.mk.injEq] at hp1
  cases hfc : lm25f.code with
  | none => rw [hfc] at fc; cases fc
  | some x =>
    cases hbc : b.code with
    | none => simp [hfc, hbc] at hcode
    | some y =>
      simp only [hfc, hbc, Bool.and_eq_true, decide_eq_true_eq] at hcode
      simp only [hfc, Option.map_some, Option.some.injEq, Prod.mk.injEq] at fc
      refine ⟨k, tk, file, b, y, toy, target, g0, g1, hk, by rw [hrec.1, hname]; rfl, hfile, hpool.2.1, by simp [Vm.method?, hk, hb], hbc, ?_, by rw [← hcode.1.1.1.1.2.1]; exact fc.2, ?_, by rw [← hfl]; exact ff.1, by rw [← hsig]; exact ff.2.2, ht, htk, hitf, hg,
        ⟨k, hk, hres 27 _ (Lambda.resolvedOf_method lm25_eM.1 lm25_eM.2.1 ht htk lm25_eM.2.2 hg)⟩, ⟨k, hk, hres 23 _ (Lambda.resolvedOf_class lm25_eC.1 lm25_eC.2.2 lm25_eC.2.1 ht)⟩, ⟨k, 0, k, hk, hres 17 _ (Lambda.resolvedOf_field lm25_eF0.1 lm25_eF0.2.1 lm25_eF0.2.2.1), hk, hfields 0 _ hg0⟩, hp0.1, hp0.2, ⟨k, 1, k, hk, hres 19 _ (Lambda.resolvedOf_field lm25_eF1.1 lm25_eF1.2.1 lm25_eF1.2.2.1), hk, hfields 1 _ hg1⟩, hp1.1, hp1.2⟩
      · rw [← hcode.1.1.1.1.2.2]
        exact ByteArray.ext fc.1
      · simp [Method.locks, Method.isSynchronized, ← hfl, ff.1, hasFlag, Acc.synchronized]
def lm26σ : Lambda.Shape := sgA "lambda$seen$6" [.object "ReadingStages", .object "ReadingStages$Sheet", .int] [.object "ReadingStages$Sheet", .int, .object "ReadingStages$Shelf"]
def lm26D : ClassFile := (lm26σ.file "ReadingStages").getD { minorVersion := 0, majorVersion := 0, constantPool := #[], accessFlags := 0, thisClass := 0, superClass := 0, interfaces := #[], fields := #[], methods := #[], attributes := #[] }
def lm26f : Method := ((layoutMethods lm26D).bind (·[1]?)).getD default
def lm26l : Array Field × Array FieldType × Array FieldType := (layoutFields lm26D 0).getD (#[], #[], #[])
def lm26c : ByteArray := ⟨#[0x2a, 0xb4, 0x0, 0x13, 0x2a, 0xb4, 0x0, 0x15, 0x2a, 0xb4, 0x0, 0x17, 0x2b, 0xb6, 0x0, 0x1f, 0xac]⟩
theorem lm26_file : lm26σ.file "ReadingStages" = some lm26D := by
  have h : (lm26σ.file "ReadingStages").isSome = true := by decide +kernel
  obtain ⟨x, hx⟩ := Option.isSome_iff_exists.mp h
  simp [lm26D, hx]
theorem lm26_second : ∀ ms, layoutMethods lm26D = some ms → ms[1]? = some lm26f := by
  intro ms hms
  have h : ((layoutMethods lm26D).bind (·[1]?)).isSome = true := by decide +kernel
  obtain ⟨x, hx⟩ := Option.isSome_iff_exists.mp h
  have hf : lm26f = x := by simp [lm26f, hx]
  rw [hms] at hx
  rw [hf]
  exact hx
theorem lm26_laid : layoutFields lm26D 0 = some lm26l := by
  have h : (layoutFields lm26D 0).isSome = true := by decide +kernel
  obtain ⟨x, hx⟩ := Option.isSome_iff_exists.mp h
  simp [lm26l, hx]
theorem lm26_code : (lm26f.code.map fun c => (c.code.data, c.maxLocals)) = some (lm26c.data, 2) := by decide +kernel
theorem lm26_flags : (lm26f.accessFlags, lm26f.name, lm26f.sig.returnType) = (0x0001, "goesOn", some FieldType.boolean) := by decide +kernel
theorem lm26_eM : lm26D.constantPool[31]? = some (.methodref 27 30) ∧ lm26D.constantPool.className? 27 = some "ReadingStages" ∧ lm26D.constantPool.nameAndType? 30 = some ("lambda$seen$6", "(LReadingStages$Sheet;ILReadingStages$Shelf;)Z") := by decide +kernel
theorem lm26_eC : lm26D.constantPool[27]? = some (.class_ 26) ∧ lm26D.constantPool.string? 26 = some "ReadingStages" ∧ 27 ≠ lm26D.thisClass := by decide +kernel
theorem lm26_eF0 : lm26D.constantPool[19]? = some (.fieldref 2 18) ∧ lm26D.constantPool.nameAndType? 18 = some ("arg$1", "LReadingStages;") ∧ lm26l.1.findIdx? (·.name == "arg$1") = some 0 ∧ (lm26l.1[0]?).map (fun f => (f.isStatic, f.slot)) = some (false, 0) := by decide +kernel
theorem lm26_eF1 : lm26D.constantPool[21]? = some (.fieldref 2 20) ∧ lm26D.constantPool.nameAndType? 20 = some ("arg$2", "LReadingStages$Sheet;") ∧ lm26l.1.findIdx? (·.name == "arg$2") = some 1 ∧ (lm26l.1[1]?).map (fun f => (f.isStatic, f.slot)) = some (false, 1) := by decide +kernel
theorem lm26_eF2 : lm26D.constantPool[23]? = some (.fieldref 2 22) ∧ lm26D.constantPool.nameAndType? 22 = some ("arg$3", "I") ∧ lm26l.1.findIdx? (·.name == "arg$3") = some 2 ∧ (lm26l.1[2]?).map (fun f => (f.isStatic, f.slot)) = some (false, 2) := by decide +kernel
theorem lm26_made {e : Setting} {vm : Vm} {d c : ClassId} {dk : Class} (hd : vm.classes[d]? = some dk) (hname : dk.name = "ReadingStages") (h : Lambda.isMade e vm d (sgA "lambda$seen$6" [.object "ReadingStages", .object "ReadingStages$Sheet", .int] [.object "ReadingStages$Sheet", .int, .object "ReadingStages$Shelf"]) c = true)
    (hO : ∀ o ok, vm.findClass "java/lang/Object" = some o → vm.classes[o]? = some ok → ok.instanceTypes.size = 0) :
    ∃ (k tk : Class) (file : ClassFile) (methk : Method) (ck : Code) (toy : ClassId) (t : MethodId) (f0 : Field) (f1 : Field) (f2 : Field),
      vm.classes[c]? = some k ∧ k.name = "ReadingStages$$Lambda" ∧ k.cf = some file ∧ file.constantPool = lm26D.constantPool ∧
      vm.method? ⟨c, 1⟩ = some methk ∧ methk.code = some ck ∧ ck.code = lm26c ∧ ck.maxLocals = 2 ∧ methk.locks = false ∧ methk.accessFlags = 0x0001 ∧ methk.sig.returnType = some .boolean ∧
      vm.findClass "ReadingStages" = some toy ∧ vm.classes[toy]? = some tk ∧ tk.isInterface = false ∧ ((methodIn toy "lambda$seen$6" "(LReadingStages$Sheet;ILReadingStages$Shelf;)Z" tk.isInterface none).ask e vm).1 = .ok t ∧
      vm.methodReady c 31 t ∧ vm.classReady c 27 toy ∧ vm.fieldReady c 19 c f0 ∧ f0.isStatic = false ∧ f0.slot = 0 ∧ vm.fieldReady c 21 c f1 ∧ f1.isStatic = false ∧ f1.slot = 1 ∧ vm.fieldReady c 23 c f2 ∧ f2.isStatic = false ∧ f2.slot = 2 := by
  obtain ⟨dk', k, ok, tk, file, cf, object, iface, toy, lay, methods, target, found, hd', hk, hfile, hcf, hobj, -, hok, hlay, hms, ht, htk, hg, -, hrec, -, -, -, hitf, hpool, hmeth, hfields, -, hres, -⟩ := Lambda.isMade_spec h
  cases hd.symm.trans hd'
  have hcf : lm26σ.file "ReadingStages" = some cf := by rw [← hname]; exact hcf
  rw [lm26_file] at hcf
  cases hcf
  rw [hO object ok hobj hok, lm26_laid] at hlay
  cases hlay
  obtain ⟨b, hb, hsame⟩ := hmeth 1 lm26f (lm26_second methods hms)
  simp only [Lambda.sameMethod, Bool.and_eq_true, decide_eq_true_eq] at hsame
  obtain ⟨⟨hn, -, hsig, hfl⟩, hcode⟩ := hsame
  have fc := lm26_code
  have ff := lm26_flags
  simp only [Prod.mk.injEq] at ff
  obtain ⟨g0, hg0, hp0⟩ := Option.map_eq_some_iff.mp lm26_eF0.2.2.2
  simp only [Prod.mk.injEq] at hp0
  obtain ⟨g1, hg1, hp1⟩ := Option.map_eq_some_iff.mp lm26_eF1.2.2.2
  simp only [Prod.mk.injEq] at hp1
  obtain ⟨g2, hg2, hp2⟩ := Option.map_eq_some_iff.mp lm26_eF2.2.2.2
  simp only [Prod.mk.injEq] at hp2
  cases hfc : lm26f.code with
  | none => rw [hfc] at fc; cases fc
  | some x =>
    cases hbc : b.code with
    | none => simp [hfc, hbc] at hcode
    | some y =>
      simp only [hfc, hbc, Bool.and_eq_true, decide_eq_true_eq] at hcode
      simp only [hfc, Option.map_some, Option.some.injEq, Prod.mk.injEq] at fc
      refine ⟨k, tk, file, b, y, toy, target, g0, g1, g2, hk, by rw [hrec.1, hname]; rfl, hfile, hpool.2.1, by simp [Vm.method?, hk, hb], hbc, ?_, by rw [← hcode.1.1.1.1.2.1]; exact fc.2, ?_, by rw [← hfl]; exact ff.1, by rw [← hsig]; exact ff.2.2, ht, htk, hitf, hg,
        ⟨k, hk, hres 31 _ (Lambda.resolvedOf_method lm26_eM.1 lm26_eM.2.1 ht htk lm26_eM.2.2 hg)⟩, ⟨k, hk, hres 27 _ (Lambda.resolvedOf_class lm26_eC.1 lm26_eC.2.2 lm26_eC.2.1 ht)⟩, ⟨k, 0, k, hk, hres 19 _ (Lambda.resolvedOf_field lm26_eF0.1 lm26_eF0.2.1 lm26_eF0.2.2.1), hk, hfields 0 _ hg0⟩, hp0.1, hp0.2, ⟨k, 1, k, hk, hres 21 _ (Lambda.resolvedOf_field lm26_eF1.1 lm26_eF1.2.1 lm26_eF1.2.2.1), hk, hfields 1 _ hg1⟩, hp1.1, hp1.2, ⟨k, 2, k, hk, hres 23 _ (Lambda.resolvedOf_field lm26_eF2.1 lm26_eF2.2.1 lm26_eF2.2.2.1), hk, hfields 2 _ hg2⟩, hp2.1, hp2.2⟩
      · rw [← hcode.1.1.1.1.2.2]
        exact ByteArray.ext fc.1
      · simp [Method.locks, Method.isSynchronized, ← hfl, ff.1, hasFlag, Acc.synchronized]
