/-! the calls through the lambdas' objects -/
set_option maxRecDepth 100000
def tLm20 : amT := fun as h K => match as with
  | [.ref r, .int w] => h.1 r = (20, 1) ∧ ∃ a, h.2.2.2.1 r 0 = some a ∧ tX0_lambda_new_0 [.ref a, .int w] h K
  | _ => False
theorem amSiteLm20 {G : amG} {l : Launch} {nm : String} {R : Room} {dR mcR msR : Nat} (hRm : R = amRm dR mcR msR) (hd : 1 + 2 ≤ dR)
    (hI : ∀ {as : List Value} {h : amH} {K : Option Value → amH → Prop}, tX0_lambda_new_0 as h K → (∃ t, as = .ref 24 :: t) ∧ h.1 24 = (0, 0) ∧ tX0_lambda_new_0 as h (fun v h' => (∃ x : Int32, v = some (.int x) ∧ narrow .int (.int x) = .int x) ∧ K v h')) : amSite G l "ReadingStages" nm R (.invokeinterface 115 2) 5 2 0 0 tLm20 := by
  intro cc nL p e s m args below meth c Q pc ls as st h k z K hC hnm hd' hT hn hcat hkk hz kk H locs lsv hR hS hL T hT0 X
  obtain ⟨hx, hb, hml, hown, hts, hK, hb0⟩ := hC
  match as, hT with
  | [.ref r, .int w], ⟨hs, a, ha, hT⟩ =>
  obtain ⟨⟨t0, et0⟩, h24, hT⟩ := hI hT
  obtain rfl : a = 24 := by cases et0; rfl
  have hc := hR.arr hs (by decide) (by decide)
  obtain ⟨ce, c1, ⟨c2, c3, c4, c5⟩, -⟩ := hc.1
  have use : ∀ w, w ∈ amGW → w.before args s = true := fun w hw => amTb.go (amGW_mv w hw).1 rfl (hK.2.2.2.2.2.2.2.1 w hw)
  have hdecl : (Cond.declares ⟨"ReadingStages$Rule", "lasts", "(I)I"⟩).before args s = true := use _ (List.mem_of_getElem? (i := 36) rfl)
  have hface : (Cond.interfaceMethod "ReadingStages$Rule" "ReadingStages$Rule" "lasts" "(I)I").before args s = true := use _ (List.mem_of_getElem? (i := 38) rfl)
  have hat := hK.2.2.2.2.2.2.2.2.1 _ (List.mem_of_getElem? (l := amLm) (i := 0) rfl)
  obtain ⟨mD, kD, cfD, i0, p0, lk, hmD, hkD, -, -, -, -, hmade, hcan, -⟩ := State.lambdaAt?_spec hat
  obtain ⟨kD', hkD', hnameD⟩ := className_of_methodNamed hmD
  cases hkD.symm.trans hkD'
  have hO : ∀ o ok, s.vm.findClass "java/lang/Object" = some o → s.vm.classes[o]? = some ok → ok.instanceTypes.size = 0 := fun o ok h1 h2 => by
    obtain ⟨cO, kO, hfO, hkO, -, -, -, hsz⟩ := Cond.instantiable_spec (hts _ q1730)
    cases hfO.symm.trans h1
    cases hkO.symm.trans h2
    exact hsz
  obtain ⟨kK, tk, file, methk, ckK, toy, t, f0, hkK, hkn, hfile, hpool, hmk, hckK, hbytes, hmlK, hlk, hfl, hretk, htoy, htk, hitf, hlook, hready, hclsR, hf0, hf0s, hf0l⟩ := lm20_made hkD hnameD hmade hO
  obtain ⟨r0, r1, hn0, hrm, hstR, hsigR⟩ := Cond.declares_spec hdecl
  obtain ⟨cL, kL, r1', hcL, hkL, hiL, hfoundL, hn1⟩ := Cond.interfaceMethod_spec hface
  cases hn0.symm.trans hn1
  have hr0cls : r0.cls = cL := Option.some.inj ((findClass_of_methodNamed hn0).symm.trans hcL)
  obtain ⟨hnameR, hdescR⟩ := name_of_methodNamed hn0 hrm
  obtain ⟨-, -, -, -, -, -, -, iface', -, -, -, -, found, -, -, -, -, -, hi', -, -, -, -, -, -, hfound', -, -, -, -, -, -, -, -, -, -, hsel⟩ := Lambda.isMade_spec hmade
  cases hcL.symm.trans hi'
  have hfr : found = r0 := by
    have h1 : s.methodFound? "ReadingStages$Rule" "lasts" "(I)I" = some r0 := hfoundL
    have hcL' : s.vm.findClass "ReadingStages$Rule" = some cL := hcL
    simp only [State.methodFound?, hcL', hkL, hiL, Option.bind_eq_bind, Option.bind_some] at h1
    have h2 : ((methodIn cL "lasts" "(I)I" true none).ask { classPath := fun _ => none } s.vm).1 = .ok found := hfound'
    rw [h2] at h1
    exact Option.some.inj h1
  subst hfr
  obtain ⟨i2, hi2, hasg, hway⟩ := State.lambdaCallable_spec hcan
  cases hcL.symm.trans hi2
  have e1 : (sgR "lambda$new$0").sam.toString = "(I)I" := by decide +kernel
  obtain ⟨vm₁, X₁, hstep₁⟩ := X.invokeinterface hx hown (hts _ q447) hn0 hrm hstR (by rw [hr0cls]; exact hkL) hiL (by decide) (a := amAd G r) (cell := ce) (kcell := kK) (by rw [hT0]; exact c1) (fun z h => by rw [h] at c4; cases c4) (by rw [c2]; exact hkK) (by rw [c2, hr0cls]; exact hasg)
    (m' := ⟨G.2.1 20, 1⟩) (meth' := methk) (by rw [Launch.admits_selectMethod X.admits, c2]; exact hsel) hmk (by rw [hnameR, hdescR, c2]; rw [e1] at hway; exact hway) (by rw [hfl]; decide) (by simp [Method.isAbstract, hfl, hasFlag, Acc.abstract])
    (g := F0 m pc lsv (.int w :: .ref (amAd G r) :: st.map (amV G))) rfl (argsL := [.int w]) (rest := st.map (amV G)) (by
      have e2 : (parseMethodDescriptor "(I)I").map (fun d => d.parameters.length) = some 1 := by decide +kernel
      have hs3 : parseMethodDescriptor "(I)I" = some r1.sig := hsigR
      rw [hs3] at e2
      exact (Option.some.inj e2).symm) rfl (by rw [hb]; exact hd')
  have hW₁ : s.WarmedH vm₁ := X₁.warmed
  obtain ⟨kD₁, hkD₁, heD₁⟩ := hW₁.alike.2.2 _ _ hkD
  have hnameD₁ : kD₁.name = "ReadingStages" := by rw [heD₁]; exact hnameD
  have hO₁ : ∀ o ok, vm₁.findClass "java/lang/Object" = some o → vm₁.classes[o]? = some ok → ok.instanceTypes.size = 0 := fun o ok h1 h2 => by
    rw [hW₁.alike.findClass] at h1
    obtain ⟨cO, kO, hfO, hkO, -, -, -, hsz⟩ := Cond.instantiable_spec (hts _ q1730)
    cases hfO.symm.trans h1
    obtain ⟨kO', hkO', heO⟩ := hW₁.alike.2.2 _ _ hkO
    cases hkO'.symm.trans h2
    rw [heO]; exact hsz
  obtain ⟨kK₁, tk₁, file₁, methk₁, ckK₁, toy₁, t₁, g0, hkK₁, hkn₁, hfile₁, hpool₁, hmk₁, hckK₁, hbytes₁, hml₁, hlk₁, hfl₁, hretk₁, htoy₁, htk₁, hitf₁, hlook₁, hready₁, hclsR₁, hg0, hg0s, hg0l⟩ := lm20_made hkD₁ hnameD₁ (Lambda.isMade_warmer hW₁ hmade) hO₁
  -- the target
  have hinst := hts _ q293
  obtain ⟨mT, methT, hnamedT, hmethT, hstT, habT⟩ := Cond.instanceMethod_spec hinst
  obtain ⟨cT, rT, mT', q1, q2, q3, q4, kP, hkP, hkPi⟩ := Cond.selects_spec (hts _ qs2)
  have hnmd : yX0_lambda_new_0.cls ≠ "java/lang/invoke/MethodHandle" ∧ yX0_lambda_new_0.cls ≠ "java/lang/invoke/VarHandle" := by decide
  cases (State.methodFound?_of_named hnamedT hnmd).symm.trans q2
  cases hnamedT.symm.trans q3
  have hfT : s.vm.findClass "ReadingStages" = some mT.cls := findClass_of_methodNamed hnamedT
  have hfT₁ : vm₁.findClass "ReadingStages" = some mT.cls := by rw [hW₁.alike.findClass]; exact hfT
  cases htoy₁.symm.trans hfT₁
  have ht₁ : t₁ = mT := by
    have h1 : (s.setVm vm₁).methodFound? "ReadingStages" "lambda$new$0" "(I)I" = some mT := by rw [State.methodFound?_setVm hW₁.alike]; exact State.methodFound?_of_named hnamedT hnmd
    simp only [State.methodFound?, State.vm_setVm, hfT₁, htk₁, Option.bind_eq_bind, Option.bind_some] at h1
    have h2 : ((methodIn mT.cls "lambda$new$0" "(I)I" tk₁.isInterface none).ask { classPath := fun _ => none } vm₁).1 = .ok t₁ := hlook₁
    rw [h2] at h1
    exact Option.some.inj h1
  subst ht₁
  have hcls24 : s.vm.findClass "ReadingStages" = some (G.1.1 0) := (hK.1.1 0 _ rfl).2.1
  have hcT : cT = G.1.1 0 := Option.some.inj (q1.symm.trans hcls24)
  subst hcT
  obtain ⟨rr, hrr, cell24, b1, b2, b3, b4⟩ := hR.obj h24
  cases hrr
  have hpk : (T.setVm vm₁).plainMethod ⟨G.2.1 20, 1⟩ := State.plainMethod.of_name (fun k' hk' => by cases hkK₁.symm.trans hk'; rw [hkn₁]; decide)
  obtain ⟨kT, hkT, hnameT⟩ := className_of_methodNamed hnamedT
  obtain ⟨kT₁, hkT₁, heT₁⟩ := hW₁.alike.2.2 _ _ hkT
  cases htk₁.symm.trans hkT₁
  have hnT : tk₁.name ≠ "java/lang/invoke/MethodHandle" ∧ tk₁.name ≠ "java/lang/invoke/VarHandle" := by
    have : tk₁.name = "ReadingStages" := by rw [heT₁]; exact hnameT
    rw [this]; decide
  obtain ⟨methT', cT, hmethT', -, -, -, -, -, -, hsigT⟩ := Cond.code_spec hnamedT (hts _ q294)
  cases hmethT.symm.trans hmethT'
  have hlenT : 1 = methT.sig.parameters.length := by
    have e2 : (parseMethodDescriptor yX0_lambda_new_0.desc).map (fun d => d.parameters.length) = some 1 := by decide +kernel
    have hs3 : parseMethodDescriptor yX0_lambda_new_0.desc = some methT.sig := hsigT
    rw [hs3] at e2
    exact (Option.some.inj e2).symm
  have hselT : selectMethod {} vm₁ (G.1.1 0) t₁ = .method t₁ := by rw [hW₁.alike.selectMethod]; exact q4
  have hsl0 : ce.slots[g0.slot]? = some (.ref (amAd G 24)) := by
    rw [hg0l, c3, arrV_read _ _ (by decide)]
    show some (amV G (va_rf (h.2.2.2.1 r 0))) = _
    rw [ha]; rfl
  have hW2 : ∀ (g : JFrame) (mk : MethodId) (a : Array Value) (U : State), ((T.setVm vm₁).calling g mk a).WarmedH U.vm → s.WarmedH U.vm := fun g mk a U hW => State.WarmedH.trans hW₁ hW
  obtain ⟨x, B, T', hpost, hheapB, X', hrun⟩ := fwd_call X₁ hx (g := F0 m pc lsv (st.map (amV G))) rfl (by rw [hml]; exact hL.2.1) (by rw [hb]; exact hd') (mk := ⟨G.2.1 20, 1⟩) hmk₁ hckK₁ hml₁ hlk₁ hpk hretk₁ (a := #[.ref (amAd G r), .int w]) (R' := amRm (1 + 1) 0 0)
    (by rw [hRm]; show 1 + 1 + 1 ≤ dR; omega) (by
      rw [hRm, hml₁]
      show 2 * 0 + ((st.map (amV G)).map fun v => v.category).sum + (2 + 11) + (12000 + 64 * (1 + 1)) ≤ 12000 + 64 * dR
      rw [amCats]
      omega) (by show k + 0 ≤ R.cells; omega) (by show z + 0 ≤ R.slots; omega)
    (y := yX0_lambda_new_0) (as := #[.ref (amAd G 24), .int w]) (t := t₁) (pcI := 5) (idx := 22) (by rw [hbytes₁]; decide +kernel) (by rw [hbytes₁]; decide +kernel)
    (back_of (bytes := cX0_lambda_new_0) (maxL := 2) (ret := (some .int)) ((metX0_lambda_new_0 l G) _ h _ hT) amPc.blind rfl rfl (Nat.le_refl _) (by show 0 + (2 + 11) + (12000 + 64 * 1) ≤ 12000 + 64 * (1 + 1); omega) (fun w hw a' U hW => pay_in hts (lw_meth q294) w hw a' U (hW2 _ _ _ U hW)) List.mem_cons_self (fun a' U hW => word_at (hW2 _ _ _ U hW) (Or.inl (by first | rfl | simp [Cond.onTables, Cond.keeps, Cond.steady])) (hts _ q86)))
    (X₁.named hnamedT) rfl ⟨Nat.le_refl _, Nat.le_refl _, rfl, by show amRep G h T.heap; rw [hT0]; exact hR, hK.moved hS (by show T.heap = H; exact hT0) hW₁⟩
    (fun U hU hUh Y target hst => by
      have hvm : U.vm = vm₁ := hU
      have hhp : U.heap = H := hUh.trans hT0
      have hsU : U.topJava?.isSome := Y.here.top
      have mT₁ : vm₁.method? t₁ = some methT := by rw [hW₁.alike.method?]; exact hmethT
      show Steps p.tables e (.java (F0 m pc lsv (st.map (amV G))) :: below) (U.setTop { method := ⟨G.2.1 20, 1⟩, pc := 0, locals := #[.val (.ref (amAd G r)), .val (.int w)], stack := [], locked := none }) target
      have hc0 := hbytes₁
      have hsp : signaturePolymorphic tk₁ methT = false := by simp [signaturePolymorphic, hnT.1, hnT.2]
      have da0 : decode lm20c 0 = .ok (.aload_n 0, 1) := by decide +kernel
      have db0 : decode lm20c 1 = .ok (.getfield 15, 3) := by decide +kernel
      jvm_step Y.here [hx, hc0, da0, Value.isRef]
      jvm_step Y.here [hx, hc0, db0, getfield.wp_ready (e := e) (s := U) (c := G.2.1 20) (field := g0) (a := amAd G r) (rest := []) (cell := ce) (v := .ref (amAd G 24)) (f := { method := ⟨G.2.1 20, 1⟩, pc := 1, locals := #[.val (.ref (amAd G r)), .val (.int w)], stack := [.ref (amAd G r)], locked := none }) hsU (by rw [hvm]; exact hg0) hg0s rfl (by rw [hhp]; exact c1) c5 hsl0]
      have dl : decode lm20c 4 = .ok (.iload_n 1, 1) := by decide +kernel
      have dv : decode lm20c 5 = .ok (.invokevirtual 22, 3) := by decide +kernel
      jvm_step Y.here [hx, hc0, dl, Value.isRef]
      jvm_step Y.here [hx, hc0, dv, invokevirtual.wp_ready (e := e) (s := U) (r := t₁) (m := t₁) (k := tk₁) (mk := tk₁) (rmeth := methT) (meth := methT) (a := amAd G 24) (args := [.int w]) (rest := []) (cell := cell24) (f := { method := ⟨G.2.1 20, 1⟩, pc := 5, locals := #[.val (.ref (amAd G r)), .val (.int w)], stack := [.int w, .ref (amAd G 24)], locked := none }) hsU ⟨kK₁, file₁, 19, 21, t₁.cls, tk₁, by rw [hvm]; exact hkK₁, hfile₁, by rw [hpool₁]; exact lm20_eM.1, by rw [hvm]; exact hclsR₁, by rw [hvm]; exact htk₁, hitf₁⟩ (by rw [hvm]; exact hready₁) (by rw [hvm]; exact htk₁) (by rw [hvm]; exact mT₁) hsp hstT hlenT rfl (by rw [hhp]; exact b1) (fun q h => by have g4 := b3.1.1; rw [h] at g4; cases g4) (by rw [Launch.admits_selectMethod X.admits, b2, hvm]; exact hselT) (by rw [hvm]; exact mT₁) habT (by rw [hvm]; exact htk₁) hitf₁]
      intro acts'
      rw [doInvoke_state]
      exact hst)
    (fun v B hp => by
      obtain ⟨g9, mk9, t9, L9, e1, e2, ⟨⟨v', h', ev, ⟨⟨x', hx1, hx2⟩, hK'⟩, hR'⟩, hF⟩, e3, e4, e5, e6⟩ := hp
      have ev := Outcome.returned.inj ev
      rw [hx1] at ev
      exact ⟨x', ev, hx2⟩)
  obtain ⟨g9, mk9, t9, L9, e1', e2', ⟨⟨v', h', ev, ⟨⟨x', hx1, hx2⟩, hK'⟩, hR'⟩, hF⟩, e3, e4, e5, e6⟩ := hpost
  have ev := Outcome.returned.inj ev
  have hv' : v' = some (.int x) := by
    rw [hx1] at ev ⊢
    exact ev.symm
  have hTH : T'.heap = t9.heap := hheapB.trans e1'
  subst hv'
  have hz9 : T.heap.size ≤ t9.heap.size := hF.1
  have hk9 : ∀ q : Nat, q < T.heap.size → ¬ amA G q → t9.heap[q]? = T.heap[q]? := hF.2
  rw [hT0] at hz9 hk9
  have hS' : va_S (amA G) s.heap T'.heap (locs ++ B.locs) := ⟨by rw [hTH]; exact Nat.le_trans hS.1 hz9, fun q h1 h2 => by rw [hTH, hk9 q (Nat.lt_of_lt_of_le h1 hS.1) h2]; exact hS.2.1 q h1 h2, fun q hq => by
    rcases List.mem_append.mp hq with h | h
    · exact hS.2.2 q h
    · rw [e3] at h
      exact e4 q h⟩
  rw [e5, e6] at X'
  obtain ⟨t2, a1, b1⟩ := kk _ _ hK' T'.heap (locs ++ B.locs) lsv (by rw [hTH]; exact hR') hS' hL T' rfl X'
  exact ⟨t2, hstep₁ t2 fun acts => (hrun acts).trans a1, b1⟩
def tLm21 : amT := fun as h K => match as with
  | [.ref r, .int w] => h.1 r = (21, 1) ∧ ∃ a, h.2.2.2.1 r 0 = some a ∧ tX0_lambda_new_1 [.ref a, .int w] h K
  | _ => False
theorem amSiteLm21 {G : amG} {l : Launch} {nm : String} {R : Room} {dR mcR msR : Nat} (hRm : R = amRm dR mcR msR) (hd : 1 + 2 ≤ dR)
    (hI : ∀ {as : List Value} {h : amH} {K : Option Value → amH → Prop}, tX0_lambda_new_1 as h K → (∃ t, as = .ref 24 :: t) ∧ h.1 24 = (0, 0) ∧ tX0_lambda_new_1 as h (fun v h' => (∃ x : Int32, v = some (.int x) ∧ narrow .int (.int x) = .int x) ∧ K v h')) : amSite G l "ReadingStages" nm R (.invokeinterface 115 2) 5 2 0 0 tLm21 := by
  intro cc nL p e s m args below meth c Q pc ls as st h k z K hC hnm hd' hT hn hcat hkk hz kk H locs lsv hR hS hL T hT0 X
  obtain ⟨hx, hb, hml, hown, hts, hK, hb0⟩ := hC
  match as, hT with
  | [.ref r, .int w], ⟨hs, a, ha, hT⟩ =>
  obtain ⟨⟨t0, et0⟩, h24, hT⟩ := hI hT
  obtain rfl : a = 24 := by cases et0; rfl
  have hc := hR.arr hs (by decide) (by decide)
  obtain ⟨ce, c1, ⟨c2, c3, c4, c5⟩, -⟩ := hc.1
  have use : ∀ w, w ∈ amGW → w.before args s = true := fun w hw => amTb.go (amGW_mv w hw).1 rfl (hK.2.2.2.2.2.2.2.1 w hw)
  have hdecl : (Cond.declares ⟨"ReadingStages$Rule", "lasts", "(I)I"⟩).before args s = true := use _ (List.mem_of_getElem? (i := 36) rfl)
  have hface : (Cond.interfaceMethod "ReadingStages$Rule" "ReadingStages$Rule" "lasts" "(I)I").before args s = true := use _ (List.mem_of_getElem? (i := 38) rfl)
  have hat := hK.2.2.2.2.2.2.2.2.1 _ (List.mem_of_getElem? (l := amLm) (i := 1) rfl)
  obtain ⟨mD, kD, cfD, i0, p0, lk, hmD, hkD, -, -, -, -, hmade, hcan, -⟩ := State.lambdaAt?_spec hat
  obtain ⟨kD', hkD', hnameD⟩ := className_of_methodNamed hmD
  cases hkD.symm.trans hkD'
  have hO : ∀ o ok, s.vm.findClass "java/lang/Object" = some o → s.vm.classes[o]? = some ok → ok.instanceTypes.size = 0 := fun o ok h1 h2 => by
    obtain ⟨cO, kO, hfO, hkO, -, -, -, hsz⟩ := Cond.instantiable_spec (hts _ q1730)
    cases hfO.symm.trans h1
    cases hkO.symm.trans h2
    exact hsz
  obtain ⟨kK, tk, file, methk, ckK, toy, t, f0, hkK, hkn, hfile, hpool, hmk, hckK, hbytes, hmlK, hlk, hfl, hretk, htoy, htk, hitf, hlook, hready, hclsR, hf0, hf0s, hf0l⟩ := lm21_made hkD hnameD hmade hO
  obtain ⟨r0, r1, hn0, hrm, hstR, hsigR⟩ := Cond.declares_spec hdecl
  obtain ⟨cL, kL, r1', hcL, hkL, hiL, hfoundL, hn1⟩ := Cond.interfaceMethod_spec hface
  cases hn0.symm.trans hn1
  have hr0cls : r0.cls = cL := Option.some.inj ((findClass_of_methodNamed hn0).symm.trans hcL)
  obtain ⟨hnameR, hdescR⟩ := name_of_methodNamed hn0 hrm
  obtain ⟨-, -, -, -, -, -, -, iface', -, -, -, -, found, -, -, -, -, -, hi', -, -, -, -, -, -, hfound', -, -, -, -, -, -, -, -, -, -, hsel⟩ := Lambda.isMade_spec hmade
  cases hcL.symm.trans hi'
  have hfr : found = r0 := by
    have h1 : s.methodFound? "ReadingStages$Rule" "lasts" "(I)I" = some r0 := hfoundL
    have hcL' : s.vm.findClass "ReadingStages$Rule" = some cL := hcL
    simp only [State.methodFound?, hcL', hkL, hiL, Option.bind_eq_bind, Option.bind_some] at h1
    have h2 : ((methodIn cL "lasts" "(I)I" true none).ask { classPath := fun _ => none } s.vm).1 = .ok found := hfound'
    rw [h2] at h1
    exact Option.some.inj h1
  subst hfr
  obtain ⟨i2, hi2, hasg, hway⟩ := State.lambdaCallable_spec hcan
  cases hcL.symm.trans hi2
  have e1 : (sgR "lambda$new$1").sam.toString = "(I)I" := by decide +kernel
  obtain ⟨vm₁, X₁, hstep₁⟩ := X.invokeinterface hx hown (hts _ q447) hn0 hrm hstR (by rw [hr0cls]; exact hkL) hiL (by decide) (a := amAd G r) (cell := ce) (kcell := kK) (by rw [hT0]; exact c1) (fun z h => by rw [h] at c4; cases c4) (by rw [c2]; exact hkK) (by rw [c2, hr0cls]; exact hasg)
    (m' := ⟨G.2.1 21, 1⟩) (meth' := methk) (by rw [Launch.admits_selectMethod X.admits, c2]; exact hsel) hmk (by rw [hnameR, hdescR, c2]; rw [e1] at hway; exact hway) (by rw [hfl]; decide) (by simp [Method.isAbstract, hfl, hasFlag, Acc.abstract])
    (g := F0 m pc lsv (.int w :: .ref (amAd G r) :: st.map (amV G))) rfl (argsL := [.int w]) (rest := st.map (amV G)) (by
      have e2 : (parseMethodDescriptor "(I)I").map (fun d => d.parameters.length) = some 1 := by decide +kernel
      have hs3 : parseMethodDescriptor "(I)I" = some r1.sig := hsigR
      rw [hs3] at e2
      exact (Option.some.inj e2).symm) rfl (by rw [hb]; exact hd')
  have hW₁ : s.WarmedH vm₁ := X₁.warmed
  obtain ⟨kD₁, hkD₁, heD₁⟩ := hW₁.alike.2.2 _ _ hkD
  have hnameD₁ : kD₁.name = "ReadingStages" := by rw [heD₁]; exact hnameD
  have hO₁ : ∀ o ok, vm₁.findClass "java/lang/Object" = some o → vm₁.classes[o]? = some ok → ok.instanceTypes.size = 0 := fun o ok h1 h2 => by
    rw [hW₁.alike.findClass] at h1
    obtain ⟨cO, kO, hfO, hkO, -, -, -, hsz⟩ := Cond.instantiable_spec (hts _ q1730)
    cases hfO.symm.trans h1
    obtain ⟨kO', hkO', heO⟩ := hW₁.alike.2.2 _ _ hkO
    cases hkO'.symm.trans h2
    rw [heO]; exact hsz
  obtain ⟨kK₁, tk₁, file₁, methk₁, ckK₁, toy₁, t₁, g0, hkK₁, hkn₁, hfile₁, hpool₁, hmk₁, hckK₁, hbytes₁, hml₁, hlk₁, hfl₁, hretk₁, htoy₁, htk₁, hitf₁, hlook₁, hready₁, hclsR₁, hg0, hg0s, hg0l⟩ := lm21_made hkD₁ hnameD₁ (Lambda.isMade_warmer hW₁ hmade) hO₁
  -- the target
  have hinst := hts _ q296
  obtain ⟨mT, methT, hnamedT, hmethT, hstT, habT⟩ := Cond.instanceMethod_spec hinst
  obtain ⟨cT, rT, mT', q1, q2, q3, q4, kP, hkP, hkPi⟩ := Cond.selects_spec (hts _ qs3)
  have hnmd : yX0_lambda_new_1.cls ≠ "java/lang/invoke/MethodHandle" ∧ yX0_lambda_new_1.cls ≠ "java/lang/invoke/VarHandle" := by decide
  cases (State.methodFound?_of_named hnamedT hnmd).symm.trans q2
  cases hnamedT.symm.trans q3
  have hfT : s.vm.findClass "ReadingStages" = some mT.cls := findClass_of_methodNamed hnamedT
  have hfT₁ : vm₁.findClass "ReadingStages" = some mT.cls := by rw [hW₁.alike.findClass]; exact hfT
  cases htoy₁.symm.trans hfT₁
  have ht₁ : t₁ = mT := by
    have h1 : (s.setVm vm₁).methodFound? "ReadingStages" "lambda$new$1" "(I)I" = some mT := by rw [State.methodFound?_setVm hW₁.alike]; exact State.methodFound?_of_named hnamedT hnmd
    simp only [State.methodFound?, State.vm_setVm, hfT₁, htk₁, Option.bind_eq_bind, Option.bind_some] at h1
    have h2 : ((methodIn mT.cls "lambda$new$1" "(I)I" tk₁.isInterface none).ask { classPath := fun _ => none } vm₁).1 = .ok t₁ := hlook₁
    rw [h2] at h1
    exact Option.some.inj h1
  subst ht₁
  have hcls24 : s.vm.findClass "ReadingStages" = some (G.1.1 0) := (hK.1.1 0 _ rfl).2.1
  have hcT : cT = G.1.1 0 := Option.some.inj (q1.symm.trans hcls24)
  subst hcT
  obtain ⟨rr, hrr, cell24, b1, b2, b3, b4⟩ := hR.obj h24
  cases hrr
  have hpk : (T.setVm vm₁).plainMethod ⟨G.2.1 21, 1⟩ := State.plainMethod.of_name (fun k' hk' => by cases hkK₁.symm.trans hk'; rw [hkn₁]; decide)
  obtain ⟨kT, hkT, hnameT⟩ := className_of_methodNamed hnamedT
  obtain ⟨kT₁, hkT₁, heT₁⟩ := hW₁.alike.2.2 _ _ hkT
  cases htk₁.symm.trans hkT₁
  have hnT : tk₁.name ≠ "java/lang/invoke/MethodHandle" ∧ tk₁.name ≠ "java/lang/invoke/VarHandle" := by
    have : tk₁.name = "ReadingStages" := by rw [heT₁]; exact hnameT
    rw [this]; decide
  obtain ⟨methT', cT, hmethT', -, -, -, -, -, -, hsigT⟩ := Cond.code_spec hnamedT (hts _ q297)
  cases hmethT.symm.trans hmethT'
  have hlenT : 1 = methT.sig.parameters.length := by
    have e2 : (parseMethodDescriptor yX0_lambda_new_1.desc).map (fun d => d.parameters.length) = some 1 := by decide +kernel
    have hs3 : parseMethodDescriptor yX0_lambda_new_1.desc = some methT.sig := hsigT
    rw [hs3] at e2
    exact (Option.some.inj e2).symm
  have hselT : selectMethod {} vm₁ (G.1.1 0) t₁ = .method t₁ := by rw [hW₁.alike.selectMethod]; exact q4
  have hsl0 : ce.slots[g0.slot]? = some (.ref (amAd G 24)) := by
    rw [hg0l, c3, arrV_read _ _ (by decide)]
    show some (amV G (va_rf (h.2.2.2.1 r 0))) = _
    rw [ha]; rfl
  have hW2 : ∀ (g : JFrame) (mk : MethodId) (a : Array Value) (U : State), ((T.setVm vm₁).calling g mk a).WarmedH U.vm → s.WarmedH U.vm := fun g mk a U hW => State.WarmedH.trans hW₁ hW
  obtain ⟨x, B, T', hpost, hheapB, X', hrun⟩ := fwd_call X₁ hx (g := F0 m pc lsv (st.map (amV G))) rfl (by rw [hml]; exact hL.2.1) (by rw [hb]; exact hd') (mk := ⟨G.2.1 21, 1⟩) hmk₁ hckK₁ hml₁ hlk₁ hpk hretk₁ (a := #[.ref (amAd G r), .int w]) (R' := amRm (1 + 1) 0 0)
    (by rw [hRm]; show 1 + 1 + 1 ≤ dR; omega) (by
      rw [hRm, hml₁]
      show 2 * 0 + ((st.map (amV G)).map fun v => v.category).sum + (2 + 11) + (12000 + 64 * (1 + 1)) ≤ 12000 + 64 * dR
      rw [amCats]
      omega) (by show k + 0 ≤ R.cells; omega) (by show z + 0 ≤ R.slots; omega)
    (y := yX0_lambda_new_1) (as := #[.ref (amAd G 24), .int w]) (t := t₁) (pcI := 5) (idx := 22) (by rw [hbytes₁]; decide +kernel) (by rw [hbytes₁]; decide +kernel)
    (back_of (bytes := cX0_lambda_new_1) (maxL := 2) (ret := (some .int)) ((metX0_lambda_new_1 l G) _ h _ hT) amPc.blind rfl rfl (Nat.le_refl _) (by show 0 + (2 + 11) + (12000 + 64 * 1) ≤ 12000 + 64 * (1 + 1); omega) (fun w hw a' U hW => pay_in hts (lw_meth q297) w hw a' U (hW2 _ _ _ U hW)) List.mem_cons_self (fun a' U hW => word_at (hW2 _ _ _ U hW) (Or.inl (by first | rfl | simp [Cond.onTables, Cond.keeps, Cond.steady])) (hts _ q86)))
    (X₁.named hnamedT) rfl ⟨Nat.le_refl _, Nat.le_refl _, rfl, by show amRep G h T.heap; rw [hT0]; exact hR, hK.moved hS (by show T.heap = H; exact hT0) hW₁⟩
    (fun U hU hUh Y target hst => by
      have hvm : U.vm = vm₁ := hU
      have hhp : U.heap = H := hUh.trans hT0
      have hsU : U.topJava?.isSome := Y.here.top
      have mT₁ : vm₁.method? t₁ = some methT := by rw [hW₁.alike.method?]; exact hmethT
      show Steps p.tables e (.java (F0 m pc lsv (st.map (amV G))) :: below) (U.setTop { method := ⟨G.2.1 21, 1⟩, pc := 0, locals := #[.val (.ref (amAd G r)), .val (.int w)], stack := [], locked := none }) target
      have hc0 := hbytes₁
      have hsp : signaturePolymorphic tk₁ methT = false := by simp [signaturePolymorphic, hnT.1, hnT.2]
      have da0 : decode lm21c 0 = .ok (.aload_n 0, 1) := by decide +kernel
      have db0 : decode lm21c 1 = .ok (.getfield 15, 3) := by decide +kernel
      jvm_step Y.here [hx, hc0, da0, Value.isRef]
      jvm_step Y.here [hx, hc0, db0, getfield.wp_ready (e := e) (s := U) (c := G.2.1 21) (field := g0) (a := amAd G r) (rest := []) (cell := ce) (v := .ref (amAd G 24)) (f := { method := ⟨G.2.1 21, 1⟩, pc := 1, locals := #[.val (.ref (amAd G r)), .val (.int w)], stack := [.ref (amAd G r)], locked := none }) hsU (by rw [hvm]; exact hg0) hg0s rfl (by rw [hhp]; exact c1) c5 hsl0]
      have dl : decode lm21c 4 = .ok (.iload_n 1, 1) := by decide +kernel
      have dv : decode lm21c 5 = .ok (.invokevirtual 22, 3) := by decide +kernel
      jvm_step Y.here [hx, hc0, dl, Value.isRef]
      jvm_step Y.here [hx, hc0, dv, invokevirtual.wp_ready (e := e) (s := U) (r := t₁) (m := t₁) (k := tk₁) (mk := tk₁) (rmeth := methT) (meth := methT) (a := amAd G 24) (args := [.int w]) (rest := []) (cell := cell24) (f := { method := ⟨G.2.1 21, 1⟩, pc := 5, locals := #[.val (.ref (amAd G r)), .val (.int w)], stack := [.int w, .ref (amAd G 24)], locked := none }) hsU ⟨kK₁, file₁, 19, 21, t₁.cls, tk₁, by rw [hvm]; exact hkK₁, hfile₁, by rw [hpool₁]; exact lm21_eM.1, by rw [hvm]; exact hclsR₁, by rw [hvm]; exact htk₁, hitf₁⟩ (by rw [hvm]; exact hready₁) (by rw [hvm]; exact htk₁) (by rw [hvm]; exact mT₁) hsp hstT hlenT rfl (by rw [hhp]; exact b1) (fun q h => by have g4 := b3.1.1; rw [h] at g4; cases g4) (by rw [Launch.admits_selectMethod X.admits, b2, hvm]; exact hselT) (by rw [hvm]; exact mT₁) habT (by rw [hvm]; exact htk₁) hitf₁]
      intro acts'
      rw [doInvoke_state]
      exact hst)
    (fun v B hp => by
      obtain ⟨g9, mk9, t9, L9, e1, e2, ⟨⟨v', h', ev, ⟨⟨x', hx1, hx2⟩, hK'⟩, hR'⟩, hF⟩, e3, e4, e5, e6⟩ := hp
      have ev := Outcome.returned.inj ev
      rw [hx1] at ev
      exact ⟨x', ev, hx2⟩)
  obtain ⟨g9, mk9, t9, L9, e1', e2', ⟨⟨v', h', ev, ⟨⟨x', hx1, hx2⟩, hK'⟩, hR'⟩, hF⟩, e3, e4, e5, e6⟩ := hpost
  have ev := Outcome.returned.inj ev
  have hv' : v' = some (.int x) := by
    rw [hx1] at ev ⊢
    exact ev.symm
  have hTH : T'.heap = t9.heap := hheapB.trans e1'
  subst hv'
  have hz9 : T.heap.size ≤ t9.heap.size := hF.1
  have hk9 : ∀ q : Nat, q < T.heap.size → ¬ amA G q → t9.heap[q]? = T.heap[q]? := hF.2
  rw [hT0] at hz9 hk9
  have hS' : va_S (amA G) s.heap T'.heap (locs ++ B.locs) := ⟨by rw [hTH]; exact Nat.le_trans hS.1 hz9, fun q h1 h2 => by rw [hTH, hk9 q (Nat.lt_of_lt_of_le h1 hS.1) h2]; exact hS.2.1 q h1 h2, fun q hq => by
    rcases List.mem_append.mp hq with h | h
    · exact hS.2.2 q h
    · rw [e3] at h
      exact e4 q h⟩
  rw [e5, e6] at X'
  obtain ⟨t2, a1, b1⟩ := kk _ _ hK' T'.heap (locs ++ B.locs) lsv (by rw [hTH]; exact hR') hS' hL T' rfl X'
  exact ⟨t2, hstep₁ t2 fun acts => (hrun acts).trans a1, b1⟩
def tLm22 : amT := fun as h K => match as with
  | [.ref r, .int w] => h.1 r = (22, 1) ∧ ∃ a, h.2.2.2.1 r 0 = some a ∧ tX0_lambda_new_2 [.ref a, .int w] h K
  | _ => False
theorem amSiteLm22 {G : amG} {l : Launch} {nm : String} {R : Room} {dR mcR msR : Nat} (hRm : R = amRm dR mcR msR) (hd : 1 + 2 ≤ dR)
    (hI : ∀ {as : List Value} {h : amH} {K : Option Value → amH → Prop}, tX0_lambda_new_2 as h K → (∃ t, as = .ref 24 :: t) ∧ h.1 24 = (0, 0) ∧ tX0_lambda_new_2 as h (fun v h' => (∃ x : Int32, v = some (.int x) ∧ narrow .int (.int x) = .int x) ∧ K v h')) : amSite G l "ReadingStages" nm R (.invokeinterface 115 2) 5 2 0 0 tLm22 := by
  intro cc nL p e s m args below meth c Q pc ls as st h k z K hC hnm hd' hT hn hcat hkk hz kk H locs lsv hR hS hL T hT0 X
  obtain ⟨hx, hb, hml, hown, hts, hK, hb0⟩ := hC
  match as, hT with
  | [.ref r, .int w], ⟨hs, a, ha, hT⟩ =>
  obtain ⟨⟨t0, et0⟩, h24, hT⟩ := hI hT
  obtain rfl : a = 24 := by cases et0; rfl
  have hc := hR.arr hs (by decide) (by decide)
  obtain ⟨ce, c1, ⟨c2, c3, c4, c5⟩, -⟩ := hc.1
  have use : ∀ w, w ∈ amGW → w.before args s = true := fun w hw => amTb.go (amGW_mv w hw).1 rfl (hK.2.2.2.2.2.2.2.1 w hw)
  have hdecl : (Cond.declares ⟨"ReadingStages$Rule", "lasts", "(I)I"⟩).before args s = true := use _ (List.mem_of_getElem? (i := 36) rfl)
  have hface : (Cond.interfaceMethod "ReadingStages$Rule" "ReadingStages$Rule" "lasts" "(I)I").before args s = true := use _ (List.mem_of_getElem? (i := 38) rfl)
  have hat := hK.2.2.2.2.2.2.2.2.1 _ (List.mem_of_getElem? (l := amLm) (i := 2) rfl)
  obtain ⟨mD, kD, cfD, i0, p0, lk, hmD, hkD, -, -, -, -, hmade, hcan, -⟩ := State.lambdaAt?_spec hat
  obtain ⟨kD', hkD', hnameD⟩ := className_of_methodNamed hmD
  cases hkD.symm.trans hkD'
  have hO : ∀ o ok, s.vm.findClass "java/lang/Object" = some o → s.vm.classes[o]? = some ok → ok.instanceTypes.size = 0 := fun o ok h1 h2 => by
    obtain ⟨cO, kO, hfO, hkO, -, -, -, hsz⟩ := Cond.instantiable_spec (hts _ q1730)
    cases hfO.symm.trans h1
    cases hkO.symm.trans h2
    exact hsz
  obtain ⟨kK, tk, file, methk, ckK, toy, t, f0, hkK, hkn, hfile, hpool, hmk, hckK, hbytes, hmlK, hlk, hfl, hretk, htoy, htk, hitf, hlook, hready, hclsR, hf0, hf0s, hf0l⟩ := lm22_made hkD hnameD hmade hO
  obtain ⟨r0, r1, hn0, hrm, hstR, hsigR⟩ := Cond.declares_spec hdecl
  obtain ⟨cL, kL, r1', hcL, hkL, hiL, hfoundL, hn1⟩ := Cond.interfaceMethod_spec hface
  cases hn0.symm.trans hn1
  have hr0cls : r0.cls = cL := Option.some.inj ((findClass_of_methodNamed hn0).symm.trans hcL)
  obtain ⟨hnameR, hdescR⟩ := name_of_methodNamed hn0 hrm
  obtain ⟨-, -, -, -, -, -, -, iface', -, -, -, -, found, -, -, -, -, -, hi', -, -, -, -, -, -, hfound', -, -, -, -, -, -, -, -, -, -, hsel⟩ := Lambda.isMade_spec hmade
  cases hcL.symm.trans hi'
  have hfr : found = r0 := by
    have h1 : s.methodFound? "ReadingStages$Rule" "lasts" "(I)I" = some r0 := hfoundL
    have hcL' : s.vm.findClass "ReadingStages$Rule" = some cL := hcL
    simp only [State.methodFound?, hcL', hkL, hiL, Option.bind_eq_bind, Option.bind_some] at h1
    have h2 : ((methodIn cL "lasts" "(I)I" true none).ask { classPath := fun _ => none } s.vm).1 = .ok found := hfound'
    rw [h2] at h1
    exact Option.some.inj h1
  subst hfr
  obtain ⟨i2, hi2, hasg, hway⟩ := State.lambdaCallable_spec hcan
  cases hcL.symm.trans hi2
  have e1 : (sgR "lambda$new$2").sam.toString = "(I)I" := by decide +kernel
  obtain ⟨vm₁, X₁, hstep₁⟩ := X.invokeinterface hx hown (hts _ q447) hn0 hrm hstR (by rw [hr0cls]; exact hkL) hiL (by decide) (a := amAd G r) (cell := ce) (kcell := kK) (by rw [hT0]; exact c1) (fun z h => by rw [h] at c4; cases c4) (by rw [c2]; exact hkK) (by rw [c2, hr0cls]; exact hasg)
    (m' := ⟨G.2.1 22, 1⟩) (meth' := methk) (by rw [Launch.admits_selectMethod X.admits, c2]; exact hsel) hmk (by rw [hnameR, hdescR, c2]; rw [e1] at hway; exact hway) (by rw [hfl]; decide) (by simp [Method.isAbstract, hfl, hasFlag, Acc.abstract])
    (g := F0 m pc lsv (.int w :: .ref (amAd G r) :: st.map (amV G))) rfl (argsL := [.int w]) (rest := st.map (amV G)) (by
      have e2 : (parseMethodDescriptor "(I)I").map (fun d => d.parameters.length) = some 1 := by decide +kernel
      have hs3 : parseMethodDescriptor "(I)I" = some r1.sig := hsigR
      rw [hs3] at e2
      exact (Option.some.inj e2).symm) rfl (by rw [hb]; exact hd')
  have hW₁ : s.WarmedH vm₁ := X₁.warmed
  obtain ⟨kD₁, hkD₁, heD₁⟩ := hW₁.alike.2.2 _ _ hkD
  have hnameD₁ : kD₁.name = "ReadingStages" := by rw [heD₁]; exact hnameD
  have hO₁ : ∀ o ok, vm₁.findClass "java/lang/Object" = some o → vm₁.classes[o]? = some ok → ok.instanceTypes.size = 0 := fun o ok h1 h2 => by
    rw [hW₁.alike.findClass] at h1
    obtain ⟨cO, kO, hfO, hkO, -, -, -, hsz⟩ := Cond.instantiable_spec (hts _ q1730)
    cases hfO.symm.trans h1
    obtain ⟨kO', hkO', heO⟩ := hW₁.alike.2.2 _ _ hkO
    cases hkO'.symm.trans h2
    rw [heO]; exact hsz
  obtain ⟨kK₁, tk₁, file₁, methk₁, ckK₁, toy₁, t₁, g0, hkK₁, hkn₁, hfile₁, hpool₁, hmk₁, hckK₁, hbytes₁, hml₁, hlk₁, hfl₁, hretk₁, htoy₁, htk₁, hitf₁, hlook₁, hready₁, hclsR₁, hg0, hg0s, hg0l⟩ := lm22_made hkD₁ hnameD₁ (Lambda.isMade_warmer hW₁ hmade) hO₁
  -- the target
  have hinst := hts _ q299
  obtain ⟨mT, methT, hnamedT, hmethT, hstT, habT⟩ := Cond.instanceMethod_spec hinst
  obtain ⟨cT, rT, mT', q1, q2, q3, q4, kP, hkP, hkPi⟩ := Cond.selects_spec (hts _ qs4)
  have hnmd : yX0_lambda_new_2.cls ≠ "java/lang/invoke/MethodHandle" ∧ yX0_lambda_new_2.cls ≠ "java/lang/invoke/VarHandle" := by decide
  cases (State.methodFound?_of_named hnamedT hnmd).symm.trans q2
  cases hnamedT.symm.trans q3
  have hfT : s.vm.findClass "ReadingStages" = some mT.cls := findClass_of_methodNamed hnamedT
  have hfT₁ : vm₁.findClass "ReadingStages" = some mT.cls := by rw [hW₁.alike.findClass]; exact hfT
  cases htoy₁.symm.trans hfT₁
  have ht₁ : t₁ = mT := by
    have h1 : (s.setVm vm₁).methodFound? "ReadingStages" "lambda$new$2" "(I)I" = some mT := by rw [State.methodFound?_setVm hW₁.alike]; exact State.methodFound?_of_named hnamedT hnmd
    simp only [State.methodFound?, State.vm_setVm, hfT₁, htk₁, Option.bind_eq_bind, Option.bind_some] at h1
    have h2 : ((methodIn mT.cls "lambda$new$2" "(I)I" tk₁.isInterface none).ask { classPath := fun _ => none } vm₁).1 = .ok t₁ := hlook₁
    rw [h2] at h1
    exact Option.some.inj h1
  subst ht₁
  have hcls24 : s.vm.findClass "ReadingStages" = some (G.1.1 0) := (hK.1.1 0 _ rfl).2.1
  have hcT : cT = G.1.1 0 := Option.some.inj (q1.symm.trans hcls24)
  subst hcT
  obtain ⟨rr, hrr, cell24, b1, b2, b3, b4⟩ := hR.obj h24
  cases hrr
  have hpk : (T.setVm vm₁).plainMethod ⟨G.2.1 22, 1⟩ := State.plainMethod.of_name (fun k' hk' => by cases hkK₁.symm.trans hk'; rw [hkn₁]; decide)
  obtain ⟨kT, hkT, hnameT⟩ := className_of_methodNamed hnamedT
  obtain ⟨kT₁, hkT₁, heT₁⟩ := hW₁.alike.2.2 _ _ hkT
  cases htk₁.symm.trans hkT₁
  have hnT : tk₁.name ≠ "java/lang/invoke/MethodHandle" ∧ tk₁.name ≠ "java/lang/invoke/VarHandle" := by
    have : tk₁.name = "ReadingStages" := by rw [heT₁]; exact hnameT
    rw [this]; decide
  obtain ⟨methT', cT, hmethT', -, -, -, -, -, -, hsigT⟩ := Cond.code_spec hnamedT (hts _ q300)
  cases hmethT.symm.trans hmethT'
  have hlenT : 1 = methT.sig.parameters.length := by
    have e2 : (parseMethodDescriptor yX0_lambda_new_2.desc).map (fun d => d.parameters.length) = some 1 := by decide +kernel
    have hs3 : parseMethodDescriptor yX0_lambda_new_2.desc = some methT.sig := hsigT
    rw [hs3] at e2
    exact (Option.some.inj e2).symm
  have hselT : selectMethod {} vm₁ (G.1.1 0) t₁ = .method t₁ := by rw [hW₁.alike.selectMethod]; exact q4
  have hsl0 : ce.slots[g0.slot]? = some (.ref (amAd G 24)) := by
    rw [hg0l, c3, arrV_read _ _ (by decide)]
    show some (amV G (va_rf (h.2.2.2.1 r 0))) = _
    rw [ha]; rfl
  have hW2 : ∀ (g : JFrame) (mk : MethodId) (a : Array Value) (U : State), ((T.setVm vm₁).calling g mk a).WarmedH U.vm → s.WarmedH U.vm := fun g mk a U hW => State.WarmedH.trans hW₁ hW
  obtain ⟨x, B, T', hpost, hheapB, X', hrun⟩ := fwd_call X₁ hx (g := F0 m pc lsv (st.map (amV G))) rfl (by rw [hml]; exact hL.2.1) (by rw [hb]; exact hd') (mk := ⟨G.2.1 22, 1⟩) hmk₁ hckK₁ hml₁ hlk₁ hpk hretk₁ (a := #[.ref (amAd G r), .int w]) (R' := amRm (1 + 1) 0 0)
    (by rw [hRm]; show 1 + 1 + 1 ≤ dR; omega) (by
      rw [hRm, hml₁]
      show 2 * 0 + ((st.map (amV G)).map fun v => v.category).sum + (2 + 11) + (12000 + 64 * (1 + 1)) ≤ 12000 + 64 * dR
      rw [amCats]
      omega) (by show k + 0 ≤ R.cells; omega) (by show z + 0 ≤ R.slots; omega)
    (y := yX0_lambda_new_2) (as := #[.ref (amAd G 24), .int w]) (t := t₁) (pcI := 5) (idx := 22) (by rw [hbytes₁]; decide +kernel) (by rw [hbytes₁]; decide +kernel)
    (back_of (bytes := cX0_lambda_new_2) (maxL := 2) (ret := (some .int)) ((metX0_lambda_new_2 l G) _ h _ hT) amPc.blind rfl rfl (Nat.le_refl _) (by show 0 + (2 + 11) + (12000 + 64 * 1) ≤ 12000 + 64 * (1 + 1); omega) (fun w hw a' U hW => pay_in hts (lw_meth q300) w hw a' U (hW2 _ _ _ U hW)) List.mem_cons_self (fun a' U hW => word_at (hW2 _ _ _ U hW) (Or.inl (by first | rfl | simp [Cond.onTables, Cond.keeps, Cond.steady])) (hts _ q86)))
    (X₁.named hnamedT) rfl ⟨Nat.le_refl _, Nat.le_refl _, rfl, by show amRep G h T.heap; rw [hT0]; exact hR, hK.moved hS (by show T.heap = H; exact hT0) hW₁⟩
    (fun U hU hUh Y target hst => by
      have hvm : U.vm = vm₁ := hU
      have hhp : U.heap = H := hUh.trans hT0
      have hsU : U.topJava?.isSome := Y.here.top
      have mT₁ : vm₁.method? t₁ = some methT := by rw [hW₁.alike.method?]; exact hmethT
      show Steps p.tables e (.java (F0 m pc lsv (st.map (amV G))) :: below) (U.setTop { method := ⟨G.2.1 22, 1⟩, pc := 0, locals := #[.val (.ref (amAd G r)), .val (.int w)], stack := [], locked := none }) target
      have hc0 := hbytes₁
      have hsp : signaturePolymorphic tk₁ methT = false := by simp [signaturePolymorphic, hnT.1, hnT.2]
      have da0 : decode lm22c 0 = .ok (.aload_n 0, 1) := by decide +kernel
      have db0 : decode lm22c 1 = .ok (.getfield 15, 3) := by decide +kernel
      jvm_step Y.here [hx, hc0, da0, Value.isRef]
      jvm_step Y.here [hx, hc0, db0, getfield.wp_ready (e := e) (s := U) (c := G.2.1 22) (field := g0) (a := amAd G r) (rest := []) (cell := ce) (v := .ref (amAd G 24)) (f := { method := ⟨G.2.1 22, 1⟩, pc := 1, locals := #[.val (.ref (amAd G r)), .val (.int w)], stack := [.ref (amAd G r)], locked := none }) hsU (by rw [hvm]; exact hg0) hg0s rfl (by rw [hhp]; exact c1) c5 hsl0]
      have dl : decode lm22c 4 = .ok (.iload_n 1, 1) := by decide +kernel
      have dv : decode lm22c 5 = .ok (.invokevirtual 22, 3) := by decide +kernel
      jvm_step Y.here [hx, hc0, dl, Value.isRef]
      jvm_step Y.here [hx, hc0, dv, invokevirtual.wp_ready (e := e) (s := U) (r := t₁) (m := t₁) (k := tk₁) (mk := tk₁) (rmeth := methT) (meth := methT) (a := amAd G 24) (args := [.int w]) (rest := []) (cell := cell24) (f := { method := ⟨G.2.1 22, 1⟩, pc := 5, locals := #[.val (.ref (amAd G r)), .val (.int w)], stack := [.int w, .ref (amAd G 24)], locked := none }) hsU ⟨kK₁, file₁, 19, 21, t₁.cls, tk₁, by rw [hvm]; exact hkK₁, hfile₁, by rw [hpool₁]; exact lm22_eM.1, by rw [hvm]; exact hclsR₁, by rw [hvm]; exact htk₁, hitf₁⟩ (by rw [hvm]; exact hready₁) (by rw [hvm]; exact htk₁) (by rw [hvm]; exact mT₁) hsp hstT hlenT rfl (by rw [hhp]; exact b1) (fun q h => by have g4 := b3.1.1; rw [h] at g4; cases g4) (by rw [Launch.admits_selectMethod X.admits, b2, hvm]; exact hselT) (by rw [hvm]; exact mT₁) habT (by rw [hvm]; exact htk₁) hitf₁]
      intro acts'
      rw [doInvoke_state]
      exact hst)
    (fun v B hp => by
      obtain ⟨g9, mk9, t9, L9, e1, e2, ⟨⟨v', h', ev, ⟨⟨x', hx1, hx2⟩, hK'⟩, hR'⟩, hF⟩, e3, e4, e5, e6⟩ := hp
      have ev := Outcome.returned.inj ev
      rw [hx1] at ev
      exact ⟨x', ev, hx2⟩)
  obtain ⟨g9, mk9, t9, L9, e1', e2', ⟨⟨v', h', ev, ⟨⟨x', hx1, hx2⟩, hK'⟩, hR'⟩, hF⟩, e3, e4, e5, e6⟩ := hpost
  have ev := Outcome.returned.inj ev
  have hv' : v' = some (.int x) := by
    rw [hx1] at ev ⊢
    exact ev.symm
  have hTH : T'.heap = t9.heap := hheapB.trans e1'
  subst hv'
  have hz9 : T.heap.size ≤ t9.heap.size := hF.1
  have hk9 : ∀ q : Nat, q < T.heap.size → ¬ amA G q → t9.heap[q]? = T.heap[q]? := hF.2
  rw [hT0] at hz9 hk9
  have hS' : va_S (amA G) s.heap T'.heap (locs ++ B.locs) := ⟨by rw [hTH]; exact Nat.le_trans hS.1 hz9, fun q h1 h2 => by rw [hTH, hk9 q (Nat.lt_of_lt_of_le h1 hS.1) h2]; exact hS.2.1 q h1 h2, fun q hq => by
    rcases List.mem_append.mp hq with h | h
    · exact hS.2.2 q h
    · rw [e3] at h
      exact e4 q h⟩
  rw [e5, e6] at X'
  obtain ⟨t2, a1, b1⟩ := kk _ _ hK' T'.heap (locs ++ B.locs) lsv (by rw [hTH]; exact hR') hS' hL T' rfl X'
  exact ⟨t2, hstep₁ t2 fun acts => (hrun acts).trans a1, b1⟩
def tLm23 : amT := fun as h K => match as with
  | [.ref r, .ref w] => h.1 r = (23, 1) ∧ ∃ a, h.2.2.2.1 r 0 = some a ∧ tX0_lambda_layBest_3 [.ref a, .ref w] h K
  | _ => False
theorem amSiteLm23 {G : amG} {l : Launch} {nm : String} {R : Room} {dR mcR msR : Nat} (hRm : R = amRm dR mcR msR) (hd : 6 + 2 ≤ dR)
    (hI : ∀ {as : List Value} {h : amH} {K : Option Value → amH → Prop}, tX0_lambda_layBest_3 as h K → (∃ t, as = .ref 24 :: t) ∧ h.1 24 = (0, 0) ∧ tX0_lambda_layBest_3 as h (fun v h' => (∃ x : Int32, v = some (.int x) ∧ narrow .boolean (.int x) = .int x) ∧ K v h')) : amSite G l "ReadingStages" nm R (.invokeinterface 147 2) 5 2 0 0 tLm23 := by
  intro cc nL p e s m args below meth c Q pc ls as st h k z K hC hnm hd' hT hn hcat hkk hz kk H locs lsv hR hS hL T hT0 X
  obtain ⟨hx, hb, hml, hown, hts, hK, hb0⟩ := hC
  match as, hT with
  | [.ref r, .ref w], ⟨hs, a, ha, hT⟩ =>
  obtain ⟨⟨t0, et0⟩, h24, hT⟩ := hI hT
  obtain rfl : a = 24 := by cases et0; rfl
  have hc := hR.arr hs (by decide) (by decide)
  obtain ⟨ce, c1, ⟨c2, c3, c4, c5⟩, -⟩ := hc.1
  have use : ∀ w, w ∈ amGW → w.before args s = true := fun w hw => amTb.go (amGW_mv w hw).1 rfl (hK.2.2.2.2.2.2.2.1 w hw)
  have hdecl : (Cond.declares ⟨"ReadingStages$Ask", "goesOn", "(LReadingStages$Shelf;)Z"⟩).before args s = true := use _ (List.mem_of_getElem? (i := 37) rfl)
  have hface : (Cond.interfaceMethod "ReadingStages$Ask" "ReadingStages$Ask" "goesOn" "(LReadingStages$Shelf;)Z").before args s = true := use _ (List.mem_of_getElem? (i := 39) rfl)
  have hat := hK.2.2.2.2.2.2.2.2.1 _ (List.mem_of_getElem? (l := amLm) (i := 3) rfl)
  obtain ⟨mD, kD, cfD, i0, p0, lk, hmD, hkD, -, -, -, -, hmade, hcan, -⟩ := State.lambdaAt?_spec hat
  obtain ⟨kD', hkD', hnameD⟩ := className_of_methodNamed hmD
  cases hkD.symm.trans hkD'
  have hO : ∀ o ok, s.vm.findClass "java/lang/Object" = some o → s.vm.classes[o]? = some ok → ok.instanceTypes.size = 0 := fun o ok h1 h2 => by
    obtain ⟨cO, kO, hfO, hkO, -, -, -, hsz⟩ := Cond.instantiable_spec (hts _ q1730)
    cases hfO.symm.trans h1
    cases hkO.symm.trans h2
    exact hsz
  obtain ⟨kK, tk, file, methk, ckK, toy, t, f0, hkK, hkn, hfile, hpool, hmk, hckK, hbytes, hmlK, hlk, hfl, hretk, htoy, htk, hitf, hlook, hready, hclsR, hf0, hf0s, hf0l⟩ := lm23_made hkD hnameD hmade hO
  obtain ⟨r0, r1, hn0, hrm, hstR, hsigR⟩ := Cond.declares_spec hdecl
  obtain ⟨cL, kL, r1', hcL, hkL, hiL, hfoundL, hn1⟩ := Cond.interfaceMethod_spec hface
  cases hn0.symm.trans hn1
  have hr0cls : r0.cls = cL := Option.some.inj ((findClass_of_methodNamed hn0).symm.trans hcL)
  obtain ⟨hnameR, hdescR⟩ := name_of_methodNamed hn0 hrm
  obtain ⟨-, -, -, -, -, -, -, iface', -, -, -, -, found, -, -, -, -, -, hi', -, -, -, -, -, -, hfound', -, -, -, -, -, -, -, -, -, -, hsel⟩ := Lambda.isMade_spec hmade
  cases hcL.symm.trans hi'
  have hfr : found = r0 := by
    have h1 : s.methodFound? "ReadingStages$Ask" "goesOn" "(LReadingStages$Shelf;)Z" = some r0 := hfoundL
    have hcL' : s.vm.findClass "ReadingStages$Ask" = some cL := hcL
    simp only [State.methodFound?, hcL', hkL, hiL, Option.bind_eq_bind, Option.bind_some] at h1
    have h2 : ((methodIn cL "goesOn" "(LReadingStages$Shelf;)Z" true none).ask { classPath := fun _ => none } s.vm).1 = .ok found := hfound'
    rw [h2] at h1
    exact Option.some.inj h1
  subst hfr
  obtain ⟨i2, hi2, hasg, hway⟩ := State.lambdaCallable_spec hcan
  cases hcL.symm.trans hi2
  have e1 : (sgA "lambda$layBest$3" [.object "ReadingStages"] [.object "ReadingStages$Shelf"]).sam.toString = "(LReadingStages$Shelf;)Z" := by decide +kernel
  obtain ⟨vm₁, X₁, hstep₁⟩ := X.invokeinterface hx hown (hts _ q487) hn0 hrm hstR (by rw [hr0cls]; exact hkL) hiL (by decide) (a := amAd G r) (cell := ce) (kcell := kK) (by rw [hT0]; exact c1) (fun z h => by rw [h] at c4; cases c4) (by rw [c2]; exact hkK) (by rw [c2, hr0cls]; exact hasg)
    (m' := ⟨G.2.1 23, 1⟩) (meth' := methk) (by rw [Launch.admits_selectMethod X.admits, c2]; exact hsel) hmk (by rw [hnameR, hdescR, c2]; rw [e1] at hway; exact hway) (by rw [hfl]; decide) (by simp [Method.isAbstract, hfl, hasFlag, Acc.abstract])
    (g := F0 m pc lsv (.ref (amAd G w) :: .ref (amAd G r) :: st.map (amV G))) rfl (argsL := [.ref (amAd G w)]) (rest := st.map (amV G)) (by
      have e2 : (parseMethodDescriptor "(LReadingStages$Shelf;)Z").map (fun d => d.parameters.length) = some 1 := by decide +kernel
      have hs3 : parseMethodDescriptor "(LReadingStages$Shelf;)Z" = some r1.sig := hsigR
      rw [hs3] at e2
      exact (Option.some.inj e2).symm) rfl (by rw [hb]; exact hd')
  have hW₁ : s.WarmedH vm₁ := X₁.warmed
  obtain ⟨kD₁, hkD₁, heD₁⟩ := hW₁.alike.2.2 _ _ hkD
  have hnameD₁ : kD₁.name = "ReadingStages" := by rw [heD₁]; exact hnameD
  have hO₁ : ∀ o ok, vm₁.findClass "java/lang/Object" = some o → vm₁.classes[o]? = some ok → ok.instanceTypes.size = 0 := fun o ok h1 h2 => by
    rw [hW₁.alike.findClass] at h1
    obtain ⟨cO, kO, hfO, hkO, -, -, -, hsz⟩ := Cond.instantiable_spec (hts _ q1730)
    cases hfO.symm.trans h1
    obtain ⟨kO', hkO', heO⟩ := hW₁.alike.2.2 _ _ hkO
    cases hkO'.symm.trans h2
    rw [heO]; exact hsz
  obtain ⟨kK₁, tk₁, file₁, methk₁, ckK₁, toy₁, t₁, g0, hkK₁, hkn₁, hfile₁, hpool₁, hmk₁, hckK₁, hbytes₁, hml₁, hlk₁, hfl₁, hretk₁, htoy₁, htk₁, hitf₁, hlook₁, hready₁, hclsR₁, hg0, hg0s, hg0l⟩ := lm23_made hkD₁ hnameD₁ (Lambda.isMade_warmer hW₁ hmade) hO₁
  -- the target
  have hinst := hts _ q394
  obtain ⟨mT, methT, hnamedT, hmethT, hstT, habT⟩ := Cond.instanceMethod_spec hinst
  obtain ⟨cT, rT, mT', q1, q2, q3, q4, kP, hkP, hkPi⟩ := Cond.selects_spec (hts _ qs6)
  have hnmd : yX0_lambda_layBest_3.cls ≠ "java/lang/invoke/MethodHandle" ∧ yX0_lambda_layBest_3.cls ≠ "java/lang/invoke/VarHandle" := by decide
  cases (State.methodFound?_of_named hnamedT hnmd).symm.trans q2
  cases hnamedT.symm.trans q3
  have hfT : s.vm.findClass "ReadingStages" = some mT.cls := findClass_of_methodNamed hnamedT
  have hfT₁ : vm₁.findClass "ReadingStages" = some mT.cls := by rw [hW₁.alike.findClass]; exact hfT
  cases htoy₁.symm.trans hfT₁
  have ht₁ : t₁ = mT := by
    have h1 : (s.setVm vm₁).methodFound? "ReadingStages" "lambda$layBest$3" "(LReadingStages$Shelf;)Z" = some mT := by rw [State.methodFound?_setVm hW₁.alike]; exact State.methodFound?_of_named hnamedT hnmd
    simp only [State.methodFound?, State.vm_setVm, hfT₁, htk₁, Option.bind_eq_bind, Option.bind_some] at h1
    have h2 : ((methodIn mT.cls "lambda$layBest$3" "(LReadingStages$Shelf;)Z" tk₁.isInterface none).ask { classPath := fun _ => none } vm₁).1 = .ok t₁ := hlook₁
    rw [h2] at h1
    exact Option.some.inj h1
  subst ht₁
  have hcls24 : s.vm.findClass "ReadingStages" = some (G.1.1 0) := (hK.1.1 0 _ rfl).2.1
  have hcT : cT = G.1.1 0 := Option.some.inj (q1.symm.trans hcls24)
  subst hcT
  obtain ⟨rr, hrr, cell24, b1, b2, b3, b4⟩ := hR.obj h24
  cases hrr
  have hpk : (T.setVm vm₁).plainMethod ⟨G.2.1 23, 1⟩ := State.plainMethod.of_name (fun k' hk' => by cases hkK₁.symm.trans hk'; rw [hkn₁]; decide)
  obtain ⟨kT, hkT, hnameT⟩ := className_of_methodNamed hnamedT
  obtain ⟨kT₁, hkT₁, heT₁⟩ := hW₁.alike.2.2 _ _ hkT
  cases htk₁.symm.trans hkT₁
  have hnT : tk₁.name ≠ "java/lang/invoke/MethodHandle" ∧ tk₁.name ≠ "java/lang/invoke/VarHandle" := by
    have : tk₁.name = "ReadingStages" := by rw [heT₁]; exact hnameT
    rw [this]; decide
  obtain ⟨methT', cT, hmethT', -, -, -, -, -, -, hsigT⟩ := Cond.code_spec hnamedT (hts _ q395)
  cases hmethT.symm.trans hmethT'
  have hlenT : 1 = methT.sig.parameters.length := by
    have e2 : (parseMethodDescriptor yX0_lambda_layBest_3.desc).map (fun d => d.parameters.length) = some 1 := by decide +kernel
    have hs3 : parseMethodDescriptor yX0_lambda_layBest_3.desc = some methT.sig := hsigT
    rw [hs3] at e2
    exact (Option.some.inj e2).symm
  have hselT : selectMethod {} vm₁ (G.1.1 0) t₁ = .method t₁ := by rw [hW₁.alike.selectMethod]; exact q4
  have hsl0 : ce.slots[g0.slot]? = some (.ref (amAd G 24)) := by
    rw [hg0l, c3, arrV_read _ _ (by decide)]
    show some (amV G (va_rf (h.2.2.2.1 r 0))) = _
    rw [ha]; rfl
  have hW2 : ∀ (g : JFrame) (mk : MethodId) (a : Array Value) (U : State), ((T.setVm vm₁).calling g mk a).WarmedH U.vm → s.WarmedH U.vm := fun g mk a U hW => State.WarmedH.trans hW₁ hW
  obtain ⟨x, B, T', hpost, hheapB, X', hrun⟩ := fwd_call X₁ hx (g := F0 m pc lsv (st.map (amV G))) rfl (by rw [hml]; exact hL.2.1) (by rw [hb]; exact hd') (mk := ⟨G.2.1 23, 1⟩) hmk₁ hckK₁ hml₁ hlk₁ hpk hretk₁ (a := #[.ref (amAd G r), .ref (amAd G w)]) (R' := amRm (6 + 1) 0 0)
    (by rw [hRm]; show 6 + 1 + 1 ≤ dR; omega) (by
      rw [hRm, hml₁]
      show 2 * 0 + ((st.map (amV G)).map fun v => v.category).sum + (2 + 11) + (12000 + 64 * (6 + 1)) ≤ 12000 + 64 * dR
      rw [amCats]
      omega) (by show k + 0 ≤ R.cells; omega) (by show z + 0 ≤ R.slots; omega)
    (y := yX0_lambda_layBest_3) (as := #[.ref (amAd G 24), .ref (amAd G w)]) (t := t₁) (pcI := 5) (idx := 22) (by rw [hbytes₁]; decide +kernel) (by rw [hbytes₁]; decide +kernel)
    (back_of (bytes := cX0_lambda_layBest_3) (maxL := 4) (ret := (some .boolean)) ((metX0_lambda_layBest_3 l G) _ h _ hT) amPc.blind rfl rfl (Nat.le_refl _) (by show 0 + (4 + 11) + (12000 + 64 * 6) ≤ 12000 + 64 * (6 + 1); omega) (fun w hw a' U hW => pay_in hts (lw_meth q395) w hw a' U (hW2 _ _ _ U hW)) List.mem_cons_self (fun a' U hW => word_at (hW2 _ _ _ U hW) (Or.inl (by first | rfl | simp [Cond.onTables, Cond.keeps, Cond.steady])) (hts _ q86)))
    (X₁.named hnamedT) rfl ⟨Nat.le_refl _, Nat.le_refl _, rfl, by show amRep G h T.heap; rw [hT0]; exact hR, hK.moved hS (by show T.heap = H; exact hT0) hW₁⟩
    (fun U hU hUh Y target hst => by
      have hvm : U.vm = vm₁ := hU
      have hhp : U.heap = H := hUh.trans hT0
      have hsU : U.topJava?.isSome := Y.here.top
      have mT₁ : vm₁.method? t₁ = some methT := by rw [hW₁.alike.method?]; exact hmethT
      show Steps p.tables e (.java (F0 m pc lsv (st.map (amV G))) :: below) (U.setTop { method := ⟨G.2.1 23, 1⟩, pc := 0, locals := #[.val (.ref (amAd G r)), .val (.ref (amAd G w))], stack := [], locked := none }) target
      have hc0 := hbytes₁
      have hsp : signaturePolymorphic tk₁ methT = false := by simp [signaturePolymorphic, hnT.1, hnT.2]
      have da0 : decode lm23c 0 = .ok (.aload_n 0, 1) := by decide +kernel
      have db0 : decode lm23c 1 = .ok (.getfield 15, 3) := by decide +kernel
      jvm_step Y.here [hx, hc0, da0, Value.isRef]
      jvm_step Y.here [hx, hc0, db0, getfield.wp_ready (e := e) (s := U) (c := G.2.1 23) (field := g0) (a := amAd G r) (rest := []) (cell := ce) (v := .ref (amAd G 24)) (f := { method := ⟨G.2.1 23, 1⟩, pc := 1, locals := #[.val (.ref (amAd G r)), .val (.ref (amAd G w))], stack := [.ref (amAd G r)], locked := none }) hsU (by rw [hvm]; exact hg0) hg0s rfl (by rw [hhp]; exact c1) c5 hsl0]
      have dl : decode lm23c 4 = .ok (.aload_n 1, 1) := by decide +kernel
      have dv : decode lm23c 5 = .ok (.invokevirtual 22, 3) := by decide +kernel
      jvm_step Y.here [hx, hc0, dl, Value.isRef]
      jvm_step Y.here [hx, hc0, dv, invokevirtual.wp_ready (e := e) (s := U) (r := t₁) (m := t₁) (k := tk₁) (mk := tk₁) (rmeth := methT) (meth := methT) (a := amAd G 24) (args := [.ref (amAd G w)]) (rest := []) (cell := cell24) (f := { method := ⟨G.2.1 23, 1⟩, pc := 5, locals := #[.val (.ref (amAd G r)), .val (.ref (amAd G w))], stack := [.ref (amAd G w), .ref (amAd G 24)], locked := none }) hsU ⟨kK₁, file₁, 19, 21, t₁.cls, tk₁, by rw [hvm]; exact hkK₁, hfile₁, by rw [hpool₁]; exact lm23_eM.1, by rw [hvm]; exact hclsR₁, by rw [hvm]; exact htk₁, hitf₁⟩ (by rw [hvm]; exact hready₁) (by rw [hvm]; exact htk₁) (by rw [hvm]; exact mT₁) hsp hstT hlenT rfl (by rw [hhp]; exact b1) (fun q h => by have g4 := b3.1.1; rw [h] at g4; cases g4) (by rw [Launch.admits_selectMethod X.admits, b2, hvm]; exact hselT) (by rw [hvm]; exact mT₁) habT (by rw [hvm]; exact htk₁) hitf₁]
      intro acts'
      rw [doInvoke_state]
      exact hst)
    (fun v B hp => by
      obtain ⟨g9, mk9, t9, L9, e1, e2, ⟨⟨v', h', ev, ⟨⟨x', hx1, hx2⟩, hK'⟩, hR'⟩, hF⟩, e3, e4, e5, e6⟩ := hp
      have ev := Outcome.returned.inj ev
      rw [hx1] at ev
      exact ⟨x', ev, hx2⟩)
  obtain ⟨g9, mk9, t9, L9, e1', e2', ⟨⟨v', h', ev, ⟨⟨x', hx1, hx2⟩, hK'⟩, hR'⟩, hF⟩, e3, e4, e5, e6⟩ := hpost
  have ev := Outcome.returned.inj ev
  have hv' : v' = some (.int x) := by
    rw [hx1] at ev ⊢
    exact ev.symm
  have hTH : T'.heap = t9.heap := hheapB.trans e1'
  subst hv'
  have hz9 : T.heap.size ≤ t9.heap.size := hF.1
  have hk9 : ∀ q : Nat, q < T.heap.size → ¬ amA G q → t9.heap[q]? = T.heap[q]? := hF.2
  rw [hT0] at hz9 hk9
  have hS' : va_S (amA G) s.heap T'.heap (locs ++ B.locs) := ⟨by rw [hTH]; exact Nat.le_trans hS.1 hz9, fun q h1 h2 => by rw [hTH, hk9 q (Nat.lt_of_lt_of_le h1 hS.1) h2]; exact hS.2.1 q h1 h2, fun q hq => by
    rcases List.mem_append.mp hq with h | h
    · exact hS.2.2 q h
    · rw [e3] at h
      exact e4 q h⟩
  rw [e5, e6] at X'
  obtain ⟨t2, a1, b1⟩ := kk _ _ hK' T'.heap (locs ++ B.locs) lsv (by rw [hTH]; exact hR') hS' hL T' rfl X'
  exact ⟨t2, hstep₁ t2 fun acts => (hrun acts).trans a1, b1⟩
def tLm24 : amT := fun as h K => match as with
  | [.ref r, .ref w] => h.1 r = (24, 2) ∧ ∃ a, h.2.2.2.1 r 0 = some a ∧ tX0_lambda_many_4 [.ref a, .int (h.2.1 r 1), .ref w] h K
  | _ => False
theorem amSiteLm24 {G : amG} {l : Launch} {nm : String} {R : Room} {dR mcR msR : Nat} (hRm : R = amRm dR mcR msR) (hd : 7 + 2 ≤ dR)
    (hI : ∀ {as : List Value} {h : amH} {K : Option Value → amH → Prop}, tX0_lambda_many_4 as h K → (∃ t, as = .ref 24 :: t) ∧ h.1 24 = (0, 0) ∧ tX0_lambda_many_4 as h (fun v h' => (∃ x : Int32, v = some (.int x) ∧ narrow .boolean (.int x) = .int x) ∧ K v h')) : amSite G l "ReadingStages" nm R (.invokeinterface 147 2) 5 2 0 0 tLm24 := by
  intro cc nL p e s m args below meth c Q pc ls as st h k z K hC hnm hd' hT hn hcat hkk hz kk H locs lsv hR hS hL T hT0 X
  obtain ⟨hx, hb, hml, hown, hts, hK, hb0⟩ := hC
  match as, hT with
  | [.ref r, .ref w], ⟨hs, a, ha, hT⟩ =>
  obtain ⟨⟨t0, et0⟩, h24, hT⟩ := hI hT
  obtain rfl : a = 24 := by cases et0; rfl
  have hc := hR.arr hs (by decide) (by decide)
  obtain ⟨ce, c1, ⟨c2, c3, c4, c5⟩, -⟩ := hc.1
  have use : ∀ w, w ∈ amGW → w.before args s = true := fun w hw => amTb.go (amGW_mv w hw).1 rfl (hK.2.2.2.2.2.2.2.1 w hw)
  have hdecl : (Cond.declares ⟨"ReadingStages$Ask", "goesOn", "(LReadingStages$Shelf;)Z"⟩).before args s = true := use _ (List.mem_of_getElem? (i := 37) rfl)
  have hface : (Cond.interfaceMethod "ReadingStages$Ask" "ReadingStages$Ask" "goesOn" "(LReadingStages$Shelf;)Z").before args s = true := use _ (List.mem_of_getElem? (i := 39) rfl)
  have hat := hK.2.2.2.2.2.2.2.2.1 _ (List.mem_of_getElem? (l := amLm) (i := 4) rfl)
  obtain ⟨mD, kD, cfD, i0, p0, lk, hmD, hkD, -, -, -, -, hmade, hcan, -⟩ := State.lambdaAt?_spec hat
  obtain ⟨kD', hkD', hnameD⟩ := className_of_methodNamed hmD
  cases hkD.symm.trans hkD'
  have hO : ∀ o ok, s.vm.findClass "java/lang/Object" = some o → s.vm.classes[o]? = some ok → ok.instanceTypes.size = 0 := fun o ok h1 h2 => by
    obtain ⟨cO, kO, hfO, hkO, -, -, -, hsz⟩ := Cond.instantiable_spec (hts _ q1730)
    cases hfO.symm.trans h1
    cases hkO.symm.trans h2
    exact hsz
  obtain ⟨kK, tk, file, methk, ckK, toy, t, f0, f1, hkK, hkn, hfile, hpool, hmk, hckK, hbytes, hmlK, hlk, hfl, hretk, htoy, htk, hitf, hlook, hready, hclsR, hf0, hf0s, hf0l, hf1, hf1s, hf1l⟩ := lm24_made hkD hnameD hmade hO
  obtain ⟨r0, r1, hn0, hrm, hstR, hsigR⟩ := Cond.declares_spec hdecl
  obtain ⟨cL, kL, r1', hcL, hkL, hiL, hfoundL, hn1⟩ := Cond.interfaceMethod_spec hface
  cases hn0.symm.trans hn1
  have hr0cls : r0.cls = cL := Option.some.inj ((findClass_of_methodNamed hn0).symm.trans hcL)
  obtain ⟨hnameR, hdescR⟩ := name_of_methodNamed hn0 hrm
  obtain ⟨-, -, -, -, -, -, -, iface', -, -, -, -, found, -, -, -, -, -, hi', -, -, -, -, -, -, hfound', -, -, -, -, -, -, -, -, -, -, hsel⟩ := Lambda.isMade_spec hmade
  cases hcL.symm.trans hi'
  have hfr : found = r0 := by
    have h1 : s.methodFound? "ReadingStages$Ask" "goesOn" "(LReadingStages$Shelf;)Z" = some r0 := hfoundL
    have hcL' : s.vm.findClass "ReadingStages$Ask" = some cL := hcL
    simp only [State.methodFound?, hcL', hkL, hiL, Option.bind_eq_bind, Option.bind_some] at h1
    have h2 : ((methodIn cL "goesOn" "(LReadingStages$Shelf;)Z" true none).ask { classPath := fun _ => none } s.vm).1 = .ok found := hfound'
    rw [h2] at h1
    exact Option.some.inj h1
  subst hfr
  obtain ⟨i2, hi2, hasg, hway⟩ := State.lambdaCallable_spec hcan
  cases hcL.symm.trans hi2
  have e1 : (sgA "lambda$many$4" [.object "ReadingStages", .int] [.int, .object "ReadingStages$Shelf"]).sam.toString = "(LReadingStages$Shelf;)Z" := by decide +kernel
  obtain ⟨vm₁, X₁, hstep₁⟩ := X.invokeinterface hx hown (hts _ q487) hn0 hrm hstR (by rw [hr0cls]; exact hkL) hiL (by decide) (a := amAd G r) (cell := ce) (kcell := kK) (by rw [hT0]; exact c1) (fun z h => by rw [h] at c4; cases c4) (by rw [c2]; exact hkK) (by rw [c2, hr0cls]; exact hasg)
    (m' := ⟨G.2.1 24, 1⟩) (meth' := methk) (by rw [Launch.admits_selectMethod X.admits, c2]; exact hsel) hmk (by rw [hnameR, hdescR, c2]; rw [e1] at hway; exact hway) (by rw [hfl]; decide) (by simp [Method.isAbstract, hfl, hasFlag, Acc.abstract])
    (g := F0 m pc lsv (.ref (amAd G w) :: .ref (amAd G r) :: st.map (amV G))) rfl (argsL := [.ref (amAd G w)]) (rest := st.map (amV G)) (by
      have e2 : (parseMethodDescriptor "(LReadingStages$Shelf;)Z").map (fun d => d.parameters.length) = some 1 := by decide +kernel
      have hs3 : parseMethodDescriptor "(LReadingStages$Shelf;)Z" = some r1.sig := hsigR
      rw [hs3] at e2
      exact (Option.some.inj e2).symm) rfl (by rw [hb]; exact hd')
  have hW₁ : s.WarmedH vm₁ := X₁.warmed
  obtain ⟨kD₁, hkD₁, heD₁⟩ := hW₁.alike.2.2 _ _ hkD
  have hnameD₁ : kD₁.name = "ReadingStages" := by rw [heD₁]; exact hnameD
  have hO₁ : ∀ o ok, vm₁.findClass "java/lang/Object" = some o → vm₁.classes[o]? = some ok → ok.instanceTypes.size = 0 := fun o ok h1 h2 => by
    rw [hW₁.alike.findClass] at h1
    obtain ⟨cO, kO, hfO, hkO, -, -, -, hsz⟩ := Cond.instantiable_spec (hts _ q1730)
    cases hfO.symm.trans h1
    obtain ⟨kO', hkO', heO⟩ := hW₁.alike.2.2 _ _ hkO
    cases hkO'.symm.trans h2
    rw [heO]; exact hsz
  obtain ⟨kK₁, tk₁, file₁, methk₁, ckK₁, toy₁, t₁, g0, g1, hkK₁, hkn₁, hfile₁, hpool₁, hmk₁, hckK₁, hbytes₁, hml₁, hlk₁, hfl₁, hretk₁, htoy₁, htk₁, hitf₁, hlook₁, hready₁, hclsR₁, hg0, hg0s, hg0l, hg1, hg1s, hg1l⟩ := lm24_made hkD₁ hnameD₁ (Lambda.isMade_warmer hW₁ hmade) hO₁
  -- the target
  have hinst := hts _ q523
  obtain ⟨mT, methT, hnamedT, hmethT, hstT, habT⟩ := Cond.instanceMethod_spec hinst
  obtain ⟨cT, rT, mT', q1, q2, q3, q4, kP, hkP, hkPi⟩ := Cond.selects_spec (hts _ qs17)
  have hnmd : yX0_lambda_many_4.cls ≠ "java/lang/invoke/MethodHandle" ∧ yX0_lambda_many_4.cls ≠ "java/lang/invoke/VarHandle" := by decide
  cases (State.methodFound?_of_named hnamedT hnmd).symm.trans q2
  cases hnamedT.symm.trans q3
  have hfT : s.vm.findClass "ReadingStages" = some mT.cls := findClass_of_methodNamed hnamedT
  have hfT₁ : vm₁.findClass "ReadingStages" = some mT.cls := by rw [hW₁.alike.findClass]; exact hfT
  cases htoy₁.symm.trans hfT₁
  have ht₁ : t₁ = mT := by
    have h1 : (s.setVm vm₁).methodFound? "ReadingStages" "lambda$many$4" "(ILReadingStages$Shelf;)Z" = some mT := by rw [State.methodFound?_setVm hW₁.alike]; exact State.methodFound?_of_named hnamedT hnmd
    simp only [State.methodFound?, State.vm_setVm, hfT₁, htk₁, Option.bind_eq_bind, Option.bind_some] at h1
    have h2 : ((methodIn mT.cls "lambda$many$4" "(ILReadingStages$Shelf;)Z" tk₁.isInterface none).ask { classPath := fun _ => none } vm₁).1 = .ok t₁ := hlook₁
    rw [h2] at h1
    exact Option.some.inj h1
  subst ht₁
  have hcls24 : s.vm.findClass "ReadingStages" = some (G.1.1 0) := (hK.1.1 0 _ rfl).2.1
  have hcT : cT = G.1.1 0 := Option.some.inj (q1.symm.trans hcls24)
  subst hcT
  obtain ⟨rr, hrr, cell24, b1, b2, b3, b4⟩ := hR.obj h24
  cases hrr
  have hpk : (T.setVm vm₁).plainMethod ⟨G.2.1 24, 1⟩ := State.plainMethod.of_name (fun k' hk' => by cases hkK₁.symm.trans hk'; rw [hkn₁]; decide)
  obtain ⟨kT, hkT, hnameT⟩ := className_of_methodNamed hnamedT
  obtain ⟨kT₁, hkT₁, heT₁⟩ := hW₁.alike.2.2 _ _ hkT
  cases htk₁.symm.trans hkT₁
  have hnT : tk₁.name ≠ "java/lang/invoke/MethodHandle" ∧ tk₁.name ≠ "java/lang/invoke/VarHandle" := by
    have : tk₁.name = "ReadingStages" := by rw [heT₁]; exact hnameT
    rw [this]; decide
  obtain ⟨methT', cT, hmethT', -, -, -, -, -, -, hsigT⟩ := Cond.code_spec hnamedT (hts _ q524)
  cases hmethT.symm.trans hmethT'
  have hlenT : 2 = methT.sig.parameters.length := by
    have e2 : (parseMethodDescriptor yX0_lambda_many_4.desc).map (fun d => d.parameters.length) = some 2 := by decide +kernel
    have hs3 : parseMethodDescriptor yX0_lambda_many_4.desc = some methT.sig := hsigT
    rw [hs3] at e2
    exact (Option.some.inj e2).symm
  have hselT : selectMethod {} vm₁ (G.1.1 0) t₁ = .method t₁ := by rw [hW₁.alike.selectMethod]; exact q4
  have hsl0 : ce.slots[g0.slot]? = some (.ref (amAd G 24)) := by
    rw [hg0l, c3, arrV_read _ _ (by decide)]
    show some (amV G (va_rf (h.2.2.2.1 r 0))) = _
    rw [ha]; rfl
  have hsl1 : ce.slots[g1.slot]? = some (.int (h.2.1 r 1)) := by
    rw [hg1l, c3, arrV_read _ _ (by decide)]
    rfl
  have hW2 : ∀ (g : JFrame) (mk : MethodId) (a : Array Value) (U : State), ((T.setVm vm₁).calling g mk a).WarmedH U.vm → s.WarmedH U.vm := fun g mk a U hW => State.WarmedH.trans hW₁ hW
  obtain ⟨x, B, T', hpost, hheapB, X', hrun⟩ := fwd_call X₁ hx (g := F0 m pc lsv (st.map (amV G))) rfl (by rw [hml]; exact hL.2.1) (by rw [hb]; exact hd') (mk := ⟨G.2.1 24, 1⟩) hmk₁ hckK₁ hml₁ hlk₁ hpk hretk₁ (a := #[.ref (amAd G r), .ref (amAd G w)]) (R' := amRm (7 + 1) 0 0)
    (by rw [hRm]; show 7 + 1 + 1 ≤ dR; omega) (by
      rw [hRm, hml₁]
      show 2 * 0 + ((st.map (amV G)).map fun v => v.category).sum + (2 + 11) + (12000 + 64 * (7 + 1)) ≤ 12000 + 64 * dR
      rw [amCats]
      omega) (by show k + 0 ≤ R.cells; omega) (by show z + 0 ≤ R.slots; omega)
    (y := yX0_lambda_many_4) (as := #[.ref (amAd G 24), .int (h.2.1 r 1), .ref (amAd G w)]) (t := t₁) (pcI := 9) (idx := 27) (by rw [hbytes₁]; decide +kernel) (by rw [hbytes₁]; decide +kernel)
    (back_of (bytes := cX0_lambda_many_4) (maxL := 3) (ret := (some .boolean)) ((metX0_lambda_many_4 l G) _ h _ hT) amPc.blind rfl rfl (Nat.le_refl _) (by show 0 + (3 + 11) + (12000 + 64 * 7) ≤ 12000 + 64 * (7 + 1); omega) (fun w hw a' U hW => pay_in hts (lw_meth q524) w hw a' U (hW2 _ _ _ U hW)) List.mem_cons_self (fun a' U hW => word_at (hW2 _ _ _ U hW) (Or.inl (by first | rfl | simp [Cond.onTables, Cond.keeps, Cond.steady])) (hts _ q86)))
    (X₁.named hnamedT) rfl ⟨Nat.le_refl _, Nat.le_refl _, rfl, by show amRep G h T.heap; rw [hT0]; exact hR, hK.moved hS (by show T.heap = H; exact hT0) hW₁⟩
    (fun U hU hUh Y target hst => by
      have hvm : U.vm = vm₁ := hU
      have hhp : U.heap = H := hUh.trans hT0
      have hsU : U.topJava?.isSome := Y.here.top
      have mT₁ : vm₁.method? t₁ = some methT := by rw [hW₁.alike.method?]; exact hmethT
      show Steps p.tables e (.java (F0 m pc lsv (st.map (amV G))) :: below) (U.setTop { method := ⟨G.2.1 24, 1⟩, pc := 0, locals := #[.val (.ref (amAd G r)), .val (.ref (amAd G w))], stack := [], locked := none }) target
      have hc0 := hbytes₁
      have hsp : signaturePolymorphic tk₁ methT = false := by simp [signaturePolymorphic, hnT.1, hnT.2]
      have da0 : decode lm24c 0 = .ok (.aload_n 0, 1) := by decide +kernel
      have db0 : decode lm24c 1 = .ok (.getfield 17, 3) := by decide +kernel
      jvm_step Y.here [hx, hc0, da0, Value.isRef]
      jvm_step Y.here [hx, hc0, db0, getfield.wp_ready (e := e) (s := U) (c := G.2.1 24) (field := g0) (a := amAd G r) (rest := []) (cell := ce) (v := .ref (amAd G 24)) (f := { method := ⟨G.2.1 24, 1⟩, pc := 1, locals := #[.val (.ref (amAd G r)), .val (.ref (amAd G w))], stack := [.ref (amAd G r)], locked := none }) hsU (by rw [hvm]; exact hg0) hg0s rfl (by rw [hhp]; exact c1) c5 hsl0]
      have da1 : decode lm24c 4 = .ok (.aload_n 0, 1) := by decide +kernel
      have db1 : decode lm24c 5 = .ok (.getfield 19, 3) := by decide +kernel
      jvm_step Y.here [hx, hc0, da1, Value.isRef]
      jvm_step Y.here [hx, hc0, db1, getfield.wp_ready (e := e) (s := U) (c := G.2.1 24) (field := g1) (a := amAd G r) (rest := [.ref (amAd G 24)]) (cell := ce) (v := .int (h.2.1 r 1)) (f := { method := ⟨G.2.1 24, 1⟩, pc := 5, locals := #[.val (.ref (amAd G r)), .val (.ref (amAd G w))], stack := [.ref (amAd G r), .ref (amAd G 24)], locked := none }) hsU (by rw [hvm]; exact hg1) hg1s rfl (by rw [hhp]; exact c1) c5 hsl1]
      have dl : decode lm24c 8 = .ok (.aload_n 1, 1) := by decide +kernel
      have dv : decode lm24c 9 = .ok (.invokevirtual 27, 3) := by decide +kernel
      jvm_step Y.here [hx, hc0, dl, Value.isRef]
      jvm_step Y.here [hx, hc0, dv, invokevirtual.wp_ready (e := e) (s := U) (r := t₁) (m := t₁) (k := tk₁) (mk := tk₁) (rmeth := methT) (meth := methT) (a := amAd G 24) (args := [.int (h.2.1 r 1), .ref (amAd G w)]) (rest := []) (cell := cell24) (f := { method := ⟨G.2.1 24, 1⟩, pc := 9, locals := #[.val (.ref (amAd G r)), .val (.ref (amAd G w))], stack := [.ref (amAd G w), .int (h.2.1 r 1), .ref (amAd G 24)], locked := none }) hsU ⟨kK₁, file₁, 23, 26, t₁.cls, tk₁, by rw [hvm]; exact hkK₁, hfile₁, by rw [hpool₁]; exact lm24_eM.1, by rw [hvm]; exact hclsR₁, by rw [hvm]; exact htk₁, hitf₁⟩ (by rw [hvm]; exact hready₁) (by rw [hvm]; exact htk₁) (by rw [hvm]; exact mT₁) hsp hstT hlenT rfl (by rw [hhp]; exact b1) (fun q h => by have g4 := b3.1.1; rw [h] at g4; cases g4) (by rw [Launch.admits_selectMethod X.admits, b2, hvm]; exact hselT) (by rw [hvm]; exact mT₁) habT (by rw [hvm]; exact htk₁) hitf₁]
      intro acts'
      rw [doInvoke_state]
      exact hst)
    (fun v B hp => by
      obtain ⟨g9, mk9, t9, L9, e1, e2, ⟨⟨v', h', ev, ⟨⟨x', hx1, hx2⟩, hK'⟩, hR'⟩, hF⟩, e3, e4, e5, e6⟩ := hp
      have ev := Outcome.returned.inj ev
      rw [hx1] at ev
      exact ⟨x', ev, hx2⟩)
  obtain ⟨g9, mk9, t9, L9, e1', e2', ⟨⟨v', h', ev, ⟨⟨x', hx1, hx2⟩, hK'⟩, hR'⟩, hF⟩, e3, e4, e5, e6⟩ := hpost
  have ev := Outcome.returned.inj ev
  have hv' : v' = some (.int x) := by
    rw [hx1] at ev ⊢
    exact ev.symm
  have hTH : T'.heap = t9.heap := hheapB.trans e1'
  subst hv'
  have hz9 : T.heap.size ≤ t9.heap.size := hF.1
  have hk9 : ∀ q : Nat, q < T.heap.size → ¬ amA G q → t9.heap[q]? = T.heap[q]? := hF.2
  rw [hT0] at hz9 hk9
  have hS' : va_S (amA G) s.heap T'.heap (locs ++ B.locs) := ⟨by rw [hTH]; exact Nat.le_trans hS.1 hz9, fun q h1 h2 => by rw [hTH, hk9 q (Nat.lt_of_lt_of_le h1 hS.1) h2]; exact hS.2.1 q h1 h2, fun q hq => by
    rcases List.mem_append.mp hq with h | h
    · exact hS.2.2 q h
    · rw [e3] at h
      exact e4 q h⟩
  rw [e5, e6] at X'
  obtain ⟨t2, a1, b1⟩ := kk _ _ hK' T'.heap (locs ++ B.locs) lsv (by rw [hTH]; exact hR') hS' hL T' rfl X'
  exact ⟨t2, hstep₁ t2 fun acts => (hrun acts).trans a1, b1⟩
def tLm25 : amT := fun as h K => match as with
  | [.ref r, .ref w] => h.1 r = (25, 2) ∧ ∃ a, h.2.2.2.1 r 0 = some a ∧ tX0_lambda_fit_5 [.ref a, .int (h.2.1 r 1), .ref w] h K
  | _ => False
theorem amSiteLm25 {G : amG} {l : Launch} {nm : String} {R : Room} {dR mcR msR : Nat} (hRm : R = amRm dR mcR msR) (hd : 7 + 2 ≤ dR)
    (hI : ∀ {as : List Value} {h : amH} {K : Option Value → amH → Prop}, tX0_lambda_fit_5 as h K → (∃ t, as = .ref 24 :: t) ∧ h.1 24 = (0, 0) ∧ tX0_lambda_fit_5 as h (fun v h' => (∃ x : Int32, v = some (.int x) ∧ narrow .boolean (.int x) = .int x) ∧ K v h')) : amSite G l "ReadingStages" nm R (.invokeinterface 147 2) 5 2 0 0 tLm25 := by
  intro cc nL p e s m args below meth c Q pc ls as st h k z K hC hnm hd' hT hn hcat hkk hz kk H locs lsv hR hS hL T hT0 X
  obtain ⟨hx, hb, hml, hown, hts, hK, hb0⟩ := hC
  match as, hT with
  | [.ref r, .ref w], ⟨hs, a, ha, hT⟩ =>
  obtain ⟨⟨t0, et0⟩, h24, hT⟩ := hI hT
  obtain rfl : a = 24 := by cases et0; rfl
  have hc := hR.arr hs (by decide) (by decide)
  obtain ⟨ce, c1, ⟨c2, c3, c4, c5⟩, -⟩ := hc.1
  have use : ∀ w, w ∈ amGW → w.before args s = true := fun w hw => amTb.go (amGW_mv w hw).1 rfl (hK.2.2.2.2.2.2.2.1 w hw)
  have hdecl : (Cond.declares ⟨"ReadingStages$Ask", "goesOn", "(LReadingStages$Shelf;)Z"⟩).before args s = true := use _ (List.mem_of_getElem? (i := 37) rfl)
  have hface : (Cond.interfaceMethod "ReadingStages$Ask" "ReadingStages$Ask" "goesOn" "(LReadingStages$Shelf;)Z").before args s = true := use _ (List.mem_of_getElem? (i := 39) rfl)
  have hat := hK.2.2.2.2.2.2.2.2.1 _ (List.mem_of_getElem? (l := amLm) (i := 5) rfl)
  obtain ⟨mD, kD, cfD, i0, p0, lk, hmD, hkD, -, -, -, -, hmade, hcan, -⟩ := State.lambdaAt?_spec hat
  obtain ⟨kD', hkD', hnameD⟩ := className_of_methodNamed hmD
  cases hkD.symm.trans hkD'
  have hO : ∀ o ok, s.vm.findClass "java/lang/Object" = some o → s.vm.classes[o]? = some ok → ok.instanceTypes.size = 0 := fun o ok h1 h2 => by
    obtain ⟨cO, kO, hfO, hkO, -, -, -, hsz⟩ := Cond.instantiable_spec (hts _ q1730)
    cases hfO.symm.trans h1
    cases hkO.symm.trans h2
    exact hsz
  obtain ⟨kK, tk, file, methk, ckK, toy, t, f0, f1, hkK, hkn, hfile, hpool, hmk, hckK, hbytes, hmlK, hlk, hfl, hretk, htoy, htk, hitf, hlook, hready, hclsR, hf0, hf0s, hf0l, hf1, hf1s, hf1l⟩ := lm25_made hkD hnameD hmade hO
  obtain ⟨r0, r1, hn0, hrm, hstR, hsigR⟩ := Cond.declares_spec hdecl
  obtain ⟨cL, kL, r1', hcL, hkL, hiL, hfoundL, hn1⟩ := Cond.interfaceMethod_spec hface
  cases hn0.symm.trans hn1
  have hr0cls : r0.cls = cL := Option.some.inj ((findClass_of_methodNamed hn0).symm.trans hcL)
  obtain ⟨hnameR, hdescR⟩ := name_of_methodNamed hn0 hrm
  obtain ⟨-, -, -, -, -, -, -, iface', -, -, -, -, found, -, -, -, -, -, hi', -, -, -, -, -, -, hfound', -, -, -, -, -, -, -, -, -, -, hsel⟩ := Lambda.isMade_spec hmade
  cases hcL.symm.trans hi'
  have hfr : found = r0 := by
    have h1 : s.methodFound? "ReadingStages$Ask" "goesOn" "(LReadingStages$Shelf;)Z" = some r0 := hfoundL
    have hcL' : s.vm.findClass "ReadingStages$Ask" = some cL := hcL
    simp only [State.methodFound?, hcL', hkL, hiL, Option.bind_eq_bind, Option.bind_some] at h1
    have h2 : ((methodIn cL "goesOn" "(LReadingStages$Shelf;)Z" true none).ask { classPath := fun _ => none } s.vm).1 = .ok found := hfound'
    rw [h2] at h1
    exact Option.some.inj h1
  subst hfr
  obtain ⟨i2, hi2, hasg, hway⟩ := State.lambdaCallable_spec hcan
  cases hcL.symm.trans hi2
  have e1 : (sgA "lambda$fit$5" [.object "ReadingStages", .int] [.int, .object "ReadingStages$Shelf"]).sam.toString = "(LReadingStages$Shelf;)Z" := by decide +kernel
  obtain ⟨vm₁, X₁, hstep₁⟩ := X.invokeinterface hx hown (hts _ q487) hn0 hrm hstR (by rw [hr0cls]; exact hkL) hiL (by decide) (a := amAd G r) (cell := ce) (kcell := kK) (by rw [hT0]; exact c1) (fun z h => by rw [h] at c4; cases c4) (by rw [c2]; exact hkK) (by rw [c2, hr0cls]; exact hasg)
    (m' := ⟨G.2.1 25, 1⟩) (meth' := methk) (by rw [Launch.admits_selectMethod X.admits, c2]; exact hsel) hmk (by rw [hnameR, hdescR, c2]; rw [e1] at hway; exact hway) (by rw [hfl]; decide) (by simp [Method.isAbstract, hfl, hasFlag, Acc.abstract])
    (g := F0 m pc lsv (.ref (amAd G w) :: .ref (amAd G r) :: st.map (amV G))) rfl (argsL := [.ref (amAd G w)]) (rest := st.map (amV G)) (by
      have e2 : (parseMethodDescriptor "(LReadingStages$Shelf;)Z").map (fun d => d.parameters.length) = some 1 := by decide +kernel
      have hs3 : parseMethodDescriptor "(LReadingStages$Shelf;)Z" = some r1.sig := hsigR
      rw [hs3] at e2
      exact (Option.some.inj e2).symm) rfl (by rw [hb]; exact hd')
  have hW₁ : s.WarmedH vm₁ := X₁.warmed
  obtain ⟨kD₁, hkD₁, heD₁⟩ := hW₁.alike.2.2 _ _ hkD
  have hnameD₁ : kD₁.name = "ReadingStages" := by rw [heD₁]; exact hnameD
  have hO₁ : ∀ o ok, vm₁.findClass "java/lang/Object" = some o → vm₁.classes[o]? = some ok → ok.instanceTypes.size = 0 := fun o ok h1 h2 => by
    rw [hW₁.alike.findClass] at h1
    obtain ⟨cO, kO, hfO, hkO, -, -, -, hsz⟩ := Cond.instantiable_spec (hts _ q1730)
    cases hfO.symm.trans h1
    obtain ⟨kO', hkO', heO⟩ := hW₁.alike.2.2 _ _ hkO
    cases hkO'.symm.trans h2
    rw [heO]; exact hsz
  obtain ⟨kK₁, tk₁, file₁, methk₁, ckK₁, toy₁, t₁, g0, g1, hkK₁, hkn₁, hfile₁, hpool₁, hmk₁, hckK₁, hbytes₁, hml₁, hlk₁, hfl₁, hretk₁, htoy₁, htk₁, hitf₁, hlook₁, hready₁, hclsR₁, hg0, hg0s, hg0l, hg1, hg1s, hg1l⟩ := lm25_made hkD₁ hnameD₁ (Lambda.isMade_warmer hW₁ hmade) hO₁
  -- the target
  have hinst := hts _ q534
  obtain ⟨mT, methT, hnamedT, hmethT, hstT, habT⟩ := Cond.instanceMethod_spec hinst
  obtain ⟨cT, rT, mT', q1, q2, q3, q4, kP, hkP, hkPi⟩ := Cond.selects_spec (hts _ qs19)
  have hnmd : yX0_lambda_fit_5.cls ≠ "java/lang/invoke/MethodHandle" ∧ yX0_lambda_fit_5.cls ≠ "java/lang/invoke/VarHandle" := by decide
  cases (State.methodFound?_of_named hnamedT hnmd).symm.trans q2
  cases hnamedT.symm.trans q3
  have hfT : s.vm.findClass "ReadingStages" = some mT.cls := findClass_of_methodNamed hnamedT
  have hfT₁ : vm₁.findClass "ReadingStages" = some mT.cls := by rw [hW₁.alike.findClass]; exact hfT
  cases htoy₁.symm.trans hfT₁
  have ht₁ : t₁ = mT := by
    have h1 : (s.setVm vm₁).methodFound? "ReadingStages" "lambda$fit$5" "(ILReadingStages$Shelf;)Z" = some mT := by rw [State.methodFound?_setVm hW₁.alike]; exact State.methodFound?_of_named hnamedT hnmd
    simp only [State.methodFound?, State.vm_setVm, hfT₁, htk₁, Option.bind_eq_bind, Option.bind_some] at h1
    have h2 : ((methodIn mT.cls "lambda$fit$5" "(ILReadingStages$Shelf;)Z" tk₁.isInterface none).ask { classPath := fun _ => none } vm₁).1 = .ok t₁ := hlook₁
    rw [h2] at h1
    exact Option.some.inj h1
  subst ht₁
  have hcls24 : s.vm.findClass "ReadingStages" = some (G.1.1 0) := (hK.1.1 0 _ rfl).2.1
  have hcT : cT = G.1.1 0 := Option.some.inj (q1.symm.trans hcls24)
  subst hcT
  obtain ⟨rr, hrr, cell24, b1, b2, b3, b4⟩ := hR.obj h24
  cases hrr
  have hpk : (T.setVm vm₁).plainMethod ⟨G.2.1 25, 1⟩ := State.plainMethod.of_name (fun k' hk' => by cases hkK₁.symm.trans hk'; rw [hkn₁]; decide)
  obtain ⟨kT, hkT, hnameT⟩ := className_of_methodNamed hnamedT
  obtain ⟨kT₁, hkT₁, heT₁⟩ := hW₁.alike.2.2 _ _ hkT
  cases htk₁.symm.trans hkT₁
  have hnT : tk₁.name ≠ "java/lang/invoke/MethodHandle" ∧ tk₁.name ≠ "java/lang/invoke/VarHandle" := by
    have : tk₁.name = "ReadingStages" := by rw [heT₁]; exact hnameT
    rw [this]; decide
  obtain ⟨methT', cT, hmethT', -, -, -, -, -, -, hsigT⟩ := Cond.code_spec hnamedT (hts _ q535)
  cases hmethT.symm.trans hmethT'
  have hlenT : 2 = methT.sig.parameters.length := by
    have e2 : (parseMethodDescriptor yX0_lambda_fit_5.desc).map (fun d => d.parameters.length) = some 2 := by decide +kernel
    have hs3 : parseMethodDescriptor yX0_lambda_fit_5.desc = some methT.sig := hsigT
    rw [hs3] at e2
    exact (Option.some.inj e2).symm
  have hselT : selectMethod {} vm₁ (G.1.1 0) t₁ = .method t₁ := by rw [hW₁.alike.selectMethod]; exact q4
  have hsl0 : ce.slots[g0.slot]? = some (.ref (amAd G 24)) := by
    rw [hg0l, c3, arrV_read _ _ (by decide)]
    show some (amV G (va_rf (h.2.2.2.1 r 0))) = _
    rw [ha]; rfl
  have hsl1 : ce.slots[g1.slot]? = some (.int (h.2.1 r 1)) := by
    rw [hg1l, c3, arrV_read _ _ (by decide)]
    rfl
  have hW2 : ∀ (g : JFrame) (mk : MethodId) (a : Array Value) (U : State), ((T.setVm vm₁).calling g mk a).WarmedH U.vm → s.WarmedH U.vm := fun g mk a U hW => State.WarmedH.trans hW₁ hW
  obtain ⟨x, B, T', hpost, hheapB, X', hrun⟩ := fwd_call X₁ hx (g := F0 m pc lsv (st.map (amV G))) rfl (by rw [hml]; exact hL.2.1) (by rw [hb]; exact hd') (mk := ⟨G.2.1 25, 1⟩) hmk₁ hckK₁ hml₁ hlk₁ hpk hretk₁ (a := #[.ref (amAd G r), .ref (amAd G w)]) (R' := amRm (7 + 1) 0 0)
    (by rw [hRm]; show 7 + 1 + 1 ≤ dR; omega) (by
      rw [hRm, hml₁]
      show 2 * 0 + ((st.map (amV G)).map fun v => v.category).sum + (2 + 11) + (12000 + 64 * (7 + 1)) ≤ 12000 + 64 * dR
      rw [amCats]
      omega) (by show k + 0 ≤ R.cells; omega) (by show z + 0 ≤ R.slots; omega)
    (y := yX0_lambda_fit_5) (as := #[.ref (amAd G 24), .int (h.2.1 r 1), .ref (amAd G w)]) (t := t₁) (pcI := 9) (idx := 27) (by rw [hbytes₁]; decide +kernel) (by rw [hbytes₁]; decide +kernel)
    (back_of (bytes := cX0_lambda_fit_5) (maxL := 3) (ret := (some .boolean)) ((metX0_lambda_fit_5 l G) _ h _ hT) amPc.blind rfl rfl (Nat.le_refl _) (by show 0 + (3 + 11) + (12000 + 64 * 7) ≤ 12000 + 64 * (7 + 1); omega) (fun w hw a' U hW => pay_in hts (lw_meth q535) w hw a' U (hW2 _ _ _ U hW)) List.mem_cons_self (fun a' U hW => word_at (hW2 _ _ _ U hW) (Or.inl (by first | rfl | simp [Cond.onTables, Cond.keeps, Cond.steady])) (hts _ q86)))
    (X₁.named hnamedT) rfl ⟨Nat.le_refl _, Nat.le_refl _, rfl, by show amRep G h T.heap; rw [hT0]; exact hR, hK.moved hS (by show T.heap = H; exact hT0) hW₁⟩
    (fun U hU hUh Y target hst => by
      have hvm : U.vm = vm₁ := hU
      have hhp : U.heap = H := hUh.trans hT0
      have hsU : U.topJava?.isSome := Y.here.top
      have mT₁ : vm₁.method? t₁ = some methT := by rw [hW₁.alike.method?]; exact hmethT
      show Steps p.tables e (.java (F0 m pc lsv (st.map (amV G))) :: below) (U.setTop { method := ⟨G.2.1 25, 1⟩, pc := 0, locals := #[.val (.ref (amAd G r)), .val (.ref (amAd G w))], stack := [], locked := none }) target
      have hc0 := hbytes₁
      have hsp : signaturePolymorphic tk₁ methT = false := by simp [signaturePolymorphic, hnT.1, hnT.2]
      have da0 : decode lm25c 0 = .ok (.aload_n 0, 1) := by decide +kernel
      have db0 : decode lm25c 1 = .ok (.getfield 17, 3) := by decide +kernel
      jvm_step Y.here [hx, hc0, da0, Value.isRef]
      jvm_step Y.here [hx, hc0, db0, getfield.wp_ready (e := e) (s := U) (c := G.2.1 25) (field := g0) (a := amAd G r) (rest := []) (cell := ce) (v := .ref (amAd G 24)) (f := { method := ⟨G.2.1 25, 1⟩, pc := 1, locals := #[.val (.ref (amAd G r)), .val (.ref (amAd G w))], stack := [.ref (amAd G r)], locked := none }) hsU (by rw [hvm]; exact hg0) hg0s rfl (by rw [hhp]; exact c1) c5 hsl0]
      have da1 : decode lm25c 4 = .ok (.aload_n 0, 1) := by decide +kernel
      have db1 : decode lm25c 5 = .ok (.getfield 19, 3) := by decide +kernel
      jvm_step Y.here [hx, hc0, da1, Value.isRef]
      jvm_step Y.here [hx, hc0, db1, getfield.wp_ready (e := e) (s := U) (c := G.2.1 25) (field := g1) (a := amAd G r) (rest := [.ref (amAd G 24)]) (cell := ce) (v := .int (h.2.1 r 1)) (f := { method := ⟨G.2.1 25, 1⟩, pc := 5, locals := #[.val (.ref (amAd G r)), .val (.ref (amAd G w))], stack := [.ref (amAd G r), .ref (amAd G 24)], locked := none }) hsU (by rw [hvm]; exact hg1) hg1s rfl (by rw [hhp]; exact c1) c5 hsl1]
      have dl : decode lm25c 8 = .ok (.aload_n 1, 1) := by decide +kernel
      have dv : decode lm25c 9 = .ok (.invokevirtual 27, 3) := by decide +kernel
      jvm_step Y.here [hx, hc0, dl, Value.isRef]
      jvm_step Y.here [hx, hc0, dv, invokevirtual.wp_ready (e := e) (s := U) (r := t₁) (m := t₁) (k := tk₁) (mk := tk₁) (rmeth := methT) (meth := methT) (a := amAd G 24) (args := [.int (h.2.1 r 1), .ref (amAd G w)]) (rest := []) (cell := cell24) (f := { method := ⟨G.2.1 25, 1⟩, pc := 9, locals := #[.val (.ref (amAd G r)), .val (.ref (amAd G w))], stack := [.ref (amAd G w), .int (h.2.1 r 1), .ref (amAd G 24)], locked := none }) hsU ⟨kK₁, file₁, 23, 26, t₁.cls, tk₁, by rw [hvm]; exact hkK₁, hfile₁, by rw [hpool₁]; exact lm25_eM.1, by rw [hvm]; exact hclsR₁, by rw [hvm]; exact htk₁, hitf₁⟩ (by rw [hvm]; exact hready₁) (by rw [hvm]; exact htk₁) (by rw [hvm]; exact mT₁) hsp hstT hlenT rfl (by rw [hhp]; exact b1) (fun q h => by have g4 := b3.1.1; rw [h] at g4; cases g4) (by rw [Launch.admits_selectMethod X.admits, b2, hvm]; exact hselT) (by rw [hvm]; exact mT₁) habT (by rw [hvm]; exact htk₁) hitf₁]
      intro acts'
      rw [doInvoke_state]
      exact hst)
    (fun v B hp => by
      obtain ⟨g9, mk9, t9, L9, e1, e2, ⟨⟨v', h', ev, ⟨⟨x', hx1, hx2⟩, hK'⟩, hR'⟩, hF⟩, e3, e4, e5, e6⟩ := hp
      have ev := Outcome.returned.inj ev
      rw [hx1] at ev
      exact ⟨x', ev, hx2⟩)
  obtain ⟨g9, mk9, t9, L9, e1', e2', ⟨⟨v', h', ev, ⟨⟨x', hx1, hx2⟩, hK'⟩, hR'⟩, hF⟩, e3, e4, e5, e6⟩ := hpost
  have ev := Outcome.returned.inj ev
  have hv' : v' = some (.int x) := by
    rw [hx1] at ev ⊢
    exact ev.symm
  have hTH : T'.heap = t9.heap := hheapB.trans e1'
  subst hv'
  have hz9 : T.heap.size ≤ t9.heap.size := hF.1
  have hk9 : ∀ q : Nat, q < T.heap.size → ¬ amA G q → t9.heap[q]? = T.heap[q]? := hF.2
  rw [hT0] at hz9 hk9
  have hS' : va_S (amA G) s.heap T'.heap (locs ++ B.locs) := ⟨by rw [hTH]; exact Nat.le_trans hS.1 hz9, fun q h1 h2 => by rw [hTH, hk9 q (Nat.lt_of_lt_of_le h1 hS.1) h2]; exact hS.2.1 q h1 h2, fun q hq => by
    rcases List.mem_append.mp hq with h | h
    · exact hS.2.2 q h
    · rw [e3] at h
      exact e4 q h⟩
  rw [e5, e6] at X'
  obtain ⟨t2, a1, b1⟩ := kk _ _ hK' T'.heap (locs ++ B.locs) lsv (by rw [hTH]; exact hR') hS' hL T' rfl X'
  exact ⟨t2, hstep₁ t2 fun acts => (hrun acts).trans a1, b1⟩
def tLm26 : amT := fun as h K => match as with
  | [.ref r, .ref w] => h.1 r = (26, 3) ∧ ∃ a b, h.2.2.2.1 r 0 = some a ∧ h.2.2.2.1 r 1 = some b ∧ tX0_lambda_seen_6 [.ref a, .ref b, .int (h.2.1 r 2), .ref w] h K
  | _ => False
theorem amSiteLm26 {G : amG} {l : Launch} {nm : String} {R : Room} {dR mcR msR : Nat} (hRm : R = amRm dR mcR msR) (hd : 6 + 2 ≤ dR)
    (hI : ∀ {as : List Value} {h : amH} {K : Option Value → amH → Prop}, tX0_lambda_seen_6 as h K → (∃ t, as = .ref 24 :: t) ∧ h.1 24 = (0, 0) ∧ tX0_lambda_seen_6 as h (fun v h' => (∃ x : Int32, v = some (.int x) ∧ narrow .boolean (.int x) = .int x) ∧ K v h')) : amSite G l "ReadingStages" nm R (.invokeinterface 147 2) 5 2 0 0 tLm26 := by
  intro cc nL p e s m args below meth c Q pc ls as st h k z K hC hnm hd' hT hn hcat hkk hz kk H locs lsv hR hS hL T hT0 X
  obtain ⟨hx, hb, hml, hown, hts, hK, hb0⟩ := hC
  match as, hT with
  | [.ref r, .ref w], ⟨hs, a, b, ha, hb2, hT⟩ =>
  obtain ⟨⟨t0, et0⟩, h24, hT⟩ := hI hT
  obtain rfl : a = 24 := by cases et0; rfl
  have hc := hR.arr hs (by decide) (by decide)
  obtain ⟨ce, c1, ⟨c2, c3, c4, c5⟩, -⟩ := hc.1
  have use : ∀ w, w ∈ amGW → w.before args s = true := fun w hw => amTb.go (amGW_mv w hw).1 rfl (hK.2.2.2.2.2.2.2.1 w hw)
  have hdecl : (Cond.declares ⟨"ReadingStages$Ask", "goesOn", "(LReadingStages$Shelf;)Z"⟩).before args s = true := use _ (List.mem_of_getElem? (i := 37) rfl)
  have hface : (Cond.interfaceMethod "ReadingStages$Ask" "ReadingStages$Ask" "goesOn" "(LReadingStages$Shelf;)Z").before args s = true := use _ (List.mem_of_getElem? (i := 39) rfl)
  have hat := hK.2.2.2.2.2.2.2.2.1 _ (List.mem_of_getElem? (l := amLm) (i := 6) rfl)
  obtain ⟨mD, kD, cfD, i0, p0, lk, hmD, hkD, -, -, -, -, hmade, hcan, -⟩ := State.lambdaAt?_spec hat
  obtain ⟨kD', hkD', hnameD⟩ := className_of_methodNamed hmD
  cases hkD.symm.trans hkD'
  have hO : ∀ o ok, s.vm.findClass "java/lang/Object" = some o → s.vm.classes[o]? = some ok → ok.instanceTypes.size = 0 := fun o ok h1 h2 => by
    obtain ⟨cO, kO, hfO, hkO, -, -, -, hsz⟩ := Cond.instantiable_spec (hts _ q1730)
    cases hfO.symm.trans h1
    cases hkO.symm.trans h2
    exact hsz
  obtain ⟨kK, tk, file, methk, ckK, toy, t, f0, f1, f2, hkK, hkn, hfile, hpool, hmk, hckK, hbytes, hmlK, hlk, hfl, hretk, htoy, htk, hitf, hlook, hready, hclsR, hf0, hf0s, hf0l, hf1, hf1s, hf1l, hf2, hf2s, hf2l⟩ := lm26_made hkD hnameD hmade hO
  obtain ⟨r0, r1, hn0, hrm, hstR, hsigR⟩ := Cond.declares_spec hdecl
  obtain ⟨cL, kL, r1', hcL, hkL, hiL, hfoundL, hn1⟩ := Cond.interfaceMethod_spec hface
  cases hn0.symm.trans hn1
  have hr0cls : r0.cls = cL := Option.some.inj ((findClass_of_methodNamed hn0).symm.trans hcL)
  obtain ⟨hnameR, hdescR⟩ := name_of_methodNamed hn0 hrm
  obtain ⟨-, -, -, -, -, -, -, iface', -, -, -, -, found, -, -, -, -, -, hi', -, -, -, -, -, -, hfound', -, -, -, -, -, -, -, -, -, -, hsel⟩ := Lambda.isMade_spec hmade
  cases hcL.symm.trans hi'
  have hfr : found = r0 := by
    have h1 : s.methodFound? "ReadingStages$Ask" "goesOn" "(LReadingStages$Shelf;)Z" = some r0 := hfoundL
    have hcL' : s.vm.findClass "ReadingStages$Ask" = some cL := hcL
    simp only [State.methodFound?, hcL', hkL, hiL, Option.bind_eq_bind, Option.bind_some] at h1
    have h2 : ((methodIn cL "goesOn" "(LReadingStages$Shelf;)Z" true none).ask { classPath := fun _ => none } s.vm).1 = .ok found := hfound'
    rw [h2] at h1
    exact Option.some.inj h1
  subst hfr
  obtain ⟨i2, hi2, hasg, hway⟩ := State.lambdaCallable_spec hcan
  cases hcL.symm.trans hi2
  have e1 : (sgA "lambda$seen$6" [.object "ReadingStages", .object "ReadingStages$Sheet", .int] [.object "ReadingStages$Sheet", .int, .object "ReadingStages$Shelf"]).sam.toString = "(LReadingStages$Shelf;)Z" := by decide +kernel
  obtain ⟨vm₁, X₁, hstep₁⟩ := X.invokeinterface hx hown (hts _ q487) hn0 hrm hstR (by rw [hr0cls]; exact hkL) hiL (by decide) (a := amAd G r) (cell := ce) (kcell := kK) (by rw [hT0]; exact c1) (fun z h => by rw [h] at c4; cases c4) (by rw [c2]; exact hkK) (by rw [c2, hr0cls]; exact hasg)
    (m' := ⟨G.2.1 26, 1⟩) (meth' := methk) (by rw [Launch.admits_selectMethod X.admits, c2]; exact hsel) hmk (by rw [hnameR, hdescR, c2]; rw [e1] at hway; exact hway) (by rw [hfl]; decide) (by simp [Method.isAbstract, hfl, hasFlag, Acc.abstract])
    (g := F0 m pc lsv (.ref (amAd G w) :: .ref (amAd G r) :: st.map (amV G))) rfl (argsL := [.ref (amAd G w)]) (rest := st.map (amV G)) (by
      have e2 : (parseMethodDescriptor "(LReadingStages$Shelf;)Z").map (fun d => d.parameters.length) = some 1 := by decide +kernel
      have hs3 : parseMethodDescriptor "(LReadingStages$Shelf;)Z" = some r1.sig := hsigR
      rw [hs3] at e2
      exact (Option.some.inj e2).symm) rfl (by rw [hb]; exact hd')
  have hW₁ : s.WarmedH vm₁ := X₁.warmed
  obtain ⟨kD₁, hkD₁, heD₁⟩ := hW₁.alike.2.2 _ _ hkD
  have hnameD₁ : kD₁.name = "ReadingStages" := by rw [heD₁]; exact hnameD
  have hO₁ : ∀ o ok, vm₁.findClass "java/lang/Object" = some o → vm₁.classes[o]? = some ok → ok.instanceTypes.size = 0 := fun o ok h1 h2 => by
    rw [hW₁.alike.findClass] at h1
    obtain ⟨cO, kO, hfO, hkO, -, -, -, hsz⟩ := Cond.instantiable_spec (hts _ q1730)
    cases hfO.symm.trans h1
    obtain ⟨kO', hkO', heO⟩ := hW₁.alike.2.2 _ _ hkO
    cases hkO'.symm.trans h2
    rw [heO]; exact hsz
  obtain ⟨kK₁, tk₁, file₁, methk₁, ckK₁, toy₁, t₁, g0, g1, g2, hkK₁, hkn₁, hfile₁, hpool₁, hmk₁, hckK₁, hbytes₁, hml₁, hlk₁, hfl₁, hretk₁, htoy₁, htk₁, hitf₁, hlook₁, hready₁, hclsR₁, hg0, hg0s, hg0l, hg1, hg1s, hg1l, hg2, hg2s, hg2l⟩ := lm26_made hkD₁ hnameD₁ (Lambda.isMade_warmer hW₁ hmade) hO₁
  -- the target
  have hinst := hts _ q1182
  obtain ⟨mT, methT, hnamedT, hmethT, hstT, habT⟩ := Cond.instanceMethod_spec hinst
  obtain ⟨cT, rT, mT', q1, q2, q3, q4, kP, hkP, hkPi⟩ := Cond.selects_spec (hts _ qs39)
  have hnmd : yX0_lambda_seen_6.cls ≠ "java/lang/invoke/MethodHandle" ∧ yX0_lambda_seen_6.cls ≠ "java/lang/invoke/VarHandle" := by decide
  cases (State.methodFound?_of_named hnamedT hnmd).symm.trans q2
  cases hnamedT.symm.trans q3
  have hfT : s.vm.findClass "ReadingStages" = some mT.cls := findClass_of_methodNamed hnamedT
  have hfT₁ : vm₁.findClass "ReadingStages" = some mT.cls := by rw [hW₁.alike.findClass]; exact hfT
  cases htoy₁.symm.trans hfT₁
  have ht₁ : t₁ = mT := by
    have h1 : (s.setVm vm₁).methodFound? "ReadingStages" "lambda$seen$6" "(LReadingStages$Sheet;ILReadingStages$Shelf;)Z" = some mT := by rw [State.methodFound?_setVm hW₁.alike]; exact State.methodFound?_of_named hnamedT hnmd
    simp only [State.methodFound?, State.vm_setVm, hfT₁, htk₁, Option.bind_eq_bind, Option.bind_some] at h1
    have h2 : ((methodIn mT.cls "lambda$seen$6" "(LReadingStages$Sheet;ILReadingStages$Shelf;)Z" tk₁.isInterface none).ask { classPath := fun _ => none } vm₁).1 = .ok t₁ := hlook₁
    rw [h2] at h1
    exact Option.some.inj h1
  subst ht₁
  have hcls24 : s.vm.findClass "ReadingStages" = some (G.1.1 0) := (hK.1.1 0 _ rfl).2.1
  have hcT : cT = G.1.1 0 := Option.some.inj (q1.symm.trans hcls24)
  subst hcT
  obtain ⟨rr, hrr, cell24, b1, b2, b3, b4⟩ := hR.obj h24
  cases hrr
  have hpk : (T.setVm vm₁).plainMethod ⟨G.2.1 26, 1⟩ := State.plainMethod.of_name (fun k' hk' => by cases hkK₁.symm.trans hk'; rw [hkn₁]; decide)
  obtain ⟨kT, hkT, hnameT⟩ := className_of_methodNamed hnamedT
  obtain ⟨kT₁, hkT₁, heT₁⟩ := hW₁.alike.2.2 _ _ hkT
  cases htk₁.symm.trans hkT₁
  have hnT : tk₁.name ≠ "java/lang/invoke/MethodHandle" ∧ tk₁.name ≠ "java/lang/invoke/VarHandle" := by
    have : tk₁.name = "ReadingStages" := by rw [heT₁]; exact hnameT
    rw [this]; decide
  obtain ⟨methT', cT, hmethT', -, -, -, -, -, -, hsigT⟩ := Cond.code_spec hnamedT (hts _ q1183)
  cases hmethT.symm.trans hmethT'
  have hlenT : 3 = methT.sig.parameters.length := by
    have e2 : (parseMethodDescriptor yX0_lambda_seen_6.desc).map (fun d => d.parameters.length) = some 3 := by decide +kernel
    have hs3 : parseMethodDescriptor yX0_lambda_seen_6.desc = some methT.sig := hsigT
    rw [hs3] at e2
    exact (Option.some.inj e2).symm
  have hselT : selectMethod {} vm₁ (G.1.1 0) t₁ = .method t₁ := by rw [hW₁.alike.selectMethod]; exact q4
  have hsl0 : ce.slots[g0.slot]? = some (.ref (amAd G 24)) := by
    rw [hg0l, c3, arrV_read _ _ (by decide)]
    show some (amV G (va_rf (h.2.2.2.1 r 0))) = _
    rw [ha]; rfl
  have hsl1 : ce.slots[g1.slot]? = some (.ref (amAd G b)) := by
    rw [hg1l, c3, arrV_read _ _ (by decide)]
    show some (amV G (va_rf (h.2.2.2.1 r 1))) = _
    rw [hb2]; rfl
  have hsl2 : ce.slots[g2.slot]? = some (.int (h.2.1 r 2)) := by
    rw [hg2l, c3, arrV_read _ _ (by decide)]
    rfl
  have hW2 : ∀ (g : JFrame) (mk : MethodId) (a : Array Value) (U : State), ((T.setVm vm₁).calling g mk a).WarmedH U.vm → s.WarmedH U.vm := fun g mk a U hW => State.WarmedH.trans hW₁ hW
  obtain ⟨x, B, T', hpost, hheapB, X', hrun⟩ := fwd_call X₁ hx (g := F0 m pc lsv (st.map (amV G))) rfl (by rw [hml]; exact hL.2.1) (by rw [hb]; exact hd') (mk := ⟨G.2.1 26, 1⟩) hmk₁ hckK₁ hml₁ hlk₁ hpk hretk₁ (a := #[.ref (amAd G r), .ref (amAd G w)]) (R' := amRm (6 + 1) 0 0)
    (by rw [hRm]; show 6 + 1 + 1 ≤ dR; omega) (by
      rw [hRm, hml₁]
      show 2 * 0 + ((st.map (amV G)).map fun v => v.category).sum + (2 + 11) + (12000 + 64 * (6 + 1)) ≤ 12000 + 64 * dR
      rw [amCats]
      omega) (by show k + 0 ≤ R.cells; omega) (by show z + 0 ≤ R.slots; omega)
    (y := yX0_lambda_seen_6) (as := #[.ref (amAd G 24), .ref (amAd G b), .int (h.2.1 r 2), .ref (amAd G w)]) (t := t₁) (pcI := 13) (idx := 31) (by rw [hbytes₁]; decide +kernel) (by rw [hbytes₁]; decide +kernel)
    (back_of (bytes := cX0_lambda_seen_6) (maxL := 6) (ret := (some .boolean)) ((metX0_lambda_seen_6 l G) _ h _ hT) amPc.blind rfl rfl (Nat.le_refl _) (by show 0 + (6 + 11) + (12000 + 64 * 6) ≤ 12000 + 64 * (6 + 1); omega) (fun w hw a' U hW => pay_in hts (lw_meth q1183) w hw a' U (hW2 _ _ _ U hW)) List.mem_cons_self (fun a' U hW => word_at (hW2 _ _ _ U hW) (Or.inl (by first | rfl | simp [Cond.onTables, Cond.keeps, Cond.steady])) (hts _ q86)))
    (X₁.named hnamedT) rfl ⟨Nat.le_refl _, Nat.le_refl _, rfl, by show amRep G h T.heap; rw [hT0]; exact hR, hK.moved hS (by show T.heap = H; exact hT0) hW₁⟩
    (fun U hU hUh Y target hst => by
      have hvm : U.vm = vm₁ := hU
      have hhp : U.heap = H := hUh.trans hT0
      have hsU : U.topJava?.isSome := Y.here.top
      have mT₁ : vm₁.method? t₁ = some methT := by rw [hW₁.alike.method?]; exact hmethT
      show Steps p.tables e (.java (F0 m pc lsv (st.map (amV G))) :: below) (U.setTop { method := ⟨G.2.1 26, 1⟩, pc := 0, locals := #[.val (.ref (amAd G r)), .val (.ref (amAd G w))], stack := [], locked := none }) target
      have hc0 := hbytes₁
      have hsp : signaturePolymorphic tk₁ methT = false := by simp [signaturePolymorphic, hnT.1, hnT.2]
      have da0 : decode lm26c 0 = .ok (.aload_n 0, 1) := by decide +kernel
      have db0 : decode lm26c 1 = .ok (.getfield 19, 3) := by decide +kernel
      jvm_step Y.here [hx, hc0, da0, Value.isRef]
      jvm_step Y.here [hx, hc0, db0, getfield.wp_ready (e := e) (s := U) (c := G.2.1 26) (field := g0) (a := amAd G r) (rest := []) (cell := ce) (v := .ref (amAd G 24)) (f := { method := ⟨G.2.1 26, 1⟩, pc := 1, locals := #[.val (.ref (amAd G r)), .val (.ref (amAd G w))], stack := [.ref (amAd G r)], locked := none }) hsU (by rw [hvm]; exact hg0) hg0s rfl (by rw [hhp]; exact c1) c5 hsl0]
      have da1 : decode lm26c 4 = .ok (.aload_n 0, 1) := by decide +kernel
      have db1 : decode lm26c 5 = .ok (.getfield 21, 3) := by decide +kernel
      jvm_step Y.here [hx, hc0, da1, Value.isRef]
      jvm_step Y.here [hx, hc0, db1, getfield.wp_ready (e := e) (s := U) (c := G.2.1 26) (field := g1) (a := amAd G r) (rest := [.ref (amAd G 24)]) (cell := ce) (v := .ref (amAd G b)) (f := { method := ⟨G.2.1 26, 1⟩, pc := 5, locals := #[.val (.ref (amAd G r)), .val (.ref (amAd G w))], stack := [.ref (amAd G r), .ref (amAd G 24)], locked := none }) hsU (by rw [hvm]; exact hg1) hg1s rfl (by rw [hhp]; exact c1) c5 hsl1]
      have da2 : decode lm26c 8 = .ok (.aload_n 0, 1) := by decide +kernel
      have db2 : decode lm26c 9 = .ok (.getfield 23, 3) := by decide +kernel
      jvm_step Y.here [hx, hc0, da2, Value.isRef]
      jvm_step Y.here [hx, hc0, db2, getfield.wp_ready (e := e) (s := U) (c := G.2.1 26) (field := g2) (a := amAd G r) (rest := [.ref (amAd G b), .ref (amAd G 24)]) (cell := ce) (v := .int (h.2.1 r 2)) (f := { method := ⟨G.2.1 26, 1⟩, pc := 9, locals := #[.val (.ref (amAd G r)), .val (.ref (amAd G w))], stack := [.ref (amAd G r), .ref (amAd G b), .ref (amAd G 24)], locked := none }) hsU (by rw [hvm]; exact hg2) hg2s rfl (by rw [hhp]; exact c1) c5 hsl2]
      have dl : decode lm26c 12 = .ok (.aload_n 1, 1) := by decide +kernel
      have dv : decode lm26c 13 = .ok (.invokevirtual 31, 3) := by decide +kernel
      jvm_step Y.here [hx, hc0, dl, Value.isRef]
      jvm_step Y.here [hx, hc0, dv, invokevirtual.wp_ready (e := e) (s := U) (r := t₁) (m := t₁) (k := tk₁) (mk := tk₁) (rmeth := methT) (meth := methT) (a := amAd G 24) (args := [.ref (amAd G b), .int (h.2.1 r 2), .ref (amAd G w)]) (rest := []) (cell := cell24) (f := { method := ⟨G.2.1 26, 1⟩, pc := 13, locals := #[.val (.ref (amAd G r)), .val (.ref (amAd G w))], stack := [.ref (amAd G w), .int (h.2.1 r 2), .ref (amAd G b), .ref (amAd G 24)], locked := none }) hsU ⟨kK₁, file₁, 27, 30, t₁.cls, tk₁, by rw [hvm]; exact hkK₁, hfile₁, by rw [hpool₁]; exact lm26_eM.1, by rw [hvm]; exact hclsR₁, by rw [hvm]; exact htk₁, hitf₁⟩ (by rw [hvm]; exact hready₁) (by rw [hvm]; exact htk₁) (by rw [hvm]; exact mT₁) hsp hstT hlenT rfl (by rw [hhp]; exact b1) (fun q h => by have g4 := b3.1.1; rw [h] at g4; cases g4) (by rw [Launch.admits_selectMethod X.admits, b2, hvm]; exact hselT) (by rw [hvm]; exact mT₁) habT (by rw [hvm]; exact htk₁) hitf₁]
      intro acts'
      rw [doInvoke_state]
      exact hst)
    (fun v B hp => by
      obtain ⟨g9, mk9, t9, L9, e1, e2, ⟨⟨v', h', ev, ⟨⟨x', hx1, hx2⟩, hK'⟩, hR'⟩, hF⟩, e3, e4, e5, e6⟩ := hp
      have ev := Outcome.returned.inj ev
      rw [hx1] at ev
      exact ⟨x', ev, hx2⟩)
  obtain ⟨g9, mk9, t9, L9, e1', e2', ⟨⟨v', h', ev, ⟨⟨x', hx1, hx2⟩, hK'⟩, hR'⟩, hF⟩, e3, e4, e5, e6⟩ := hpost
  have ev := Outcome.returned.inj ev
  have hv' : v' = some (.int x) := by
    rw [hx1] at ev ⊢
    exact ev.symm
  have hTH : T'.heap = t9.heap := hheapB.trans e1'
  subst hv'
  have hz9 : T.heap.size ≤ t9.heap.size := hF.1
  have hk9 : ∀ q : Nat, q < T.heap.size → ¬ amA G q → t9.heap[q]? = T.heap[q]? := hF.2
  rw [hT0] at hz9 hk9
  have hS' : va_S (amA G) s.heap T'.heap (locs ++ B.locs) := ⟨by rw [hTH]; exact Nat.le_trans hS.1 hz9, fun q h1 h2 => by rw [hTH, hk9 q (Nat.lt_of_lt_of_le h1 hS.1) h2]; exact hS.2.1 q h1 h2, fun q hq => by
    rcases List.mem_append.mp hq with h | h
    · exact hS.2.2 q h
    · rw [e3] at h
      exact e4 q h⟩
  rw [e5, e6] at X'
  obtain ⟨t2, a1, b1⟩ := kk _ _ hK' T'.heap (locs ++ B.locs) lsv (by rw [hTH]; exact hR') hS' hL T' rfl X'
  exact ⟨t2, hstep₁ t2 fun acts => (hrun acts).trans a1, b1⟩
