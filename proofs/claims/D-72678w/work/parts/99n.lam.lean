/-! the calls through the lambdas' objects -/
set_option maxRecDepth 100000
def tLm20 : amT := fun as h K => match as with
  | [.ref r, .int w] => h.1 r = (20, 1) ∧ ∃ a, h.2.2.2.1 r 0 = some a ∧ tX0_lambda_new_0 [.ref a, .int w] h K
  | _ => False
theorem amSiteLm20 {G : amG} {l : Launch} {nm : String} {R : Room} {dR mcR msR : Nat} (hRm : R = amRm dR mcR msR) (hd : 1 + 2 ≤ dR)
    (hI : ∀ {as : List Value} {h : amH} {K : Option Value → amH → Prop}, tX0_lambda_new_0 as h K → (∃ t, as = .ref 24 :: t) ∧ h.1 24 = (0, 0) ∧ tX0_lambda_new_0 as h (fun v h' => (∃ x : Int32, v = some (.int x) ∧ narrow .int (.int x) = .int x) ∧ K v h')) : amSite G l "ReadingStages" nm R (.invokeinterface 115 2) 5 2 0 0 tLm20 := by
  intro cc nL p e s m args below meth c Q pc ls as st h k z K hC hnm hd' hT hn hcat hkk hz kk H locs lsv hR hS hL T hT0 X
  obtain ⟨hx, hb, hml, hown, hts, hK, hb0⟩ := hC
  match as, hT with
  | [.ref r, .int w], ⟨hs, a, ha, hT⟩ =>
  obtain ⟨⟨t0, et0⟩, h24, hT⟩ := hI hT
  obtain rfl : a = 24 := by cases et0; rfl
  have hc := hR.arr hs (by decide) (by decide)
  obtain ⟨ce, c1, ⟨c2, c3, c4, c5⟩, -⟩ := hc.1
  have use : ∀ w, w ∈ amGW → w.before args s = true := fun w hw => amTb.go (amGW_mv w hw).1 rfl (hK.2.2.2.2.2.2.2.1 w hw)
  have hdecl : (Cond.declares ⟨"ReadingStages$Rule", "lasts", "(I)I"⟩).before args s = true := use _ (List.mem_of_getElem? (i := 36) rfl)
  have hface : (Cond.interfaceMethod "ReadingStages$Rule" "ReadingStages$Rule" "lasts" "(I)I").before args s = true := use _ (List.mem_of_getElem? (i := 38) rfl)
  have hat := hK.2.2.2.2.2.2.2.2.1 _ (List.mem_of_getElem? (l := amLm) (i := 0) rfl)
  obtain ⟨mD, kD, cfD, i0, p0, lk, hmD, hkD, -, -, -, -, hmade, hcan, -⟩ := State.lambdaAt?_spec hat
  obtain ⟨kD', hkD', hnameD⟩ := className_of_methodNamed hmD
  cases hkD.symm.trans hkD'
  have hO : ∀ o ok, s.vm.findClass "java/lang/Object" = some o → s.vm.classes[o]? = some ok → ok.instanceTypes.size = 0 := fun o ok h1 h2 => by
    obtain ⟨cO, kO, hfO, hkO, -, -, -, hsz⟩ := Cond.instantiable_spec (hts _ q1730)
    cases hfO.symm.trans h1
    cases hkO.symm.trans h2
    exact hsz
  obtain ⟨kK, tk, file, methk, ckK, toy, t, f0, hkK, hkn, hfile, hpool, hmk, hckK, hbytes, hmlK, hlk, hfl, hretk, htoy, htk, hitf, hlook, hready, hclsR, hf0, hf0s, hf0l⟩ := lm20_made hkD hnameD hmade hO
  obtain ⟨r0, r1, hn0, hrm, hstR, hsigR⟩ := Cond.declares_spec hdecl
  obtain ⟨cL, kL, r1', hcL, hkL, hiL, hfoundL, hn1⟩ := Cond.interfaceMethod_spec hface
  cases hn0.symm.trans hn1
  have hr0cls : r0.cls = cL := Option.some.inj ((findClass_of_methodNamed hn0).symm.trans hcL)
  obtain ⟨hnameR, hdescR⟩ := name_of_methodNamed hn0 hrm
  obtain ⟨-, -, -, -, -, -, -, iface', -, -, -, -, found, -, -, -, -, -, hi', -, -, -, -, -, -, hfound', -, -, -, -, -, -, -, -, -, -, hsel⟩ := Lambda.isMade_spec hmade
  cases hcL.symm.trans hi'
  have hfr : found = r0 := by
    have h1 : s.methodFound? "ReadingStages$Rule" "lasts" "(I)I" = some r0 := hfoundL
    have hcL' : s.vm.findClass "ReadingStages$Rule" = some cL := hcL
    simp only [State.methodFound?, hcL', hkL, hiL, Option.bind_eq_bind, Option.bind_some] at h1
    have h2 : ((methodIn cL "lasts" "(I)I" true none).ask { classPath := fun _ => none } s.vm).1 = .ok found := hfound'
    rw [h2] at h1
    exact Option.some.inj h1
  subst hfr
  obtain ⟨i2, hi2, hasg, hway⟩ := State.lambdaCallable_spec hcan
  cases hcL.symm.trans hi2
  have e1 : (sgR "lambda$new$0").sam.toString = "(I)I" := by decide +kernel
  sorry
