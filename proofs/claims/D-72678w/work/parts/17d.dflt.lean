/-! AM: calls that land in an interface's default method -/
set_option maxRecDepth 100000
section DFL
variable {G : amG} {own : String} {cc : ByteArray} {nL : Nat} {p : Program} {l : Launch} {e : Env} {R : Room} {s : State} {m : MethodId} {args : Array Value} {below : List Frame} {meth : Method} {c : Code} {Q : State → Prop}
variable {H : Heap} {locs : List Loc} {k z : Nat} {y : MethodName} {bytes : ByteArray} {maxL mc ms n index : Nat} {ret : Option FieldType} {ws : List Cond} {rm : Room} {Pc : Array Value → State → Prop} {Qc : Array Value → State → Outcome → State → Prop} {free : Addr → Prop} {Ts : List Cond} {C : String} {b : Addr} {As rest : List Value} {g : JFrame}
theorem am_runD {x : MethodName} {owner : String} (S : CallFix p m c cc nL s args Ts own) (hM : Met l y ws rm Pc Qc mc ms free)
    (hrc : rm.cells = mc) (hrs : rm.slots = ms) (hR : rm.frames + 1 ≤ R.frames ∧ 8 + (maxL + 11) + rm.locals ≤ R.locals) (hG : GoodIn Ts ws) (hcw : Cond.code y bytes maxL ret ∈ ws) (hini : (Cond.initialized y.cls).before args s = true)
    (hlink : (Cond.methodLink own index x).before args s = true) (hsame : (Cond.sameMethod x.cls owner x.name x.desc).before args s = true) (hdecl : (Cond.declares ⟨owner, x.name, x.desc⟩).before args s = true) (howner : owner ≠ "java/lang/invoke/MethodHandle" ∧ owner ≠ "java/lang/invoke/VarHandle")
    (hsel : (Cond.landsInDefault C x y).before args s = true) (hinst : (Cond.instanceMethod y).before args s = true) (hlen : ∀ sig, parseMethodDescriptor x.desc = some sig → n = sig.parameters.length) (hp : PreV s H C b Pc As)
    (hg : g.method = m) (hn : As.length = n) (hsize : g.locals.size = nL) (hstack : g.stack = As.reverse ++ .ref b :: rest) (hW : 2 * g.monitorRoom + (rest.map fun v => v.category).sum ≤ 8) (hdg : decode cc g.pc = .ok (.invokevirtual index, 3)) (hf : k + mc ≤ R.cells ∧ z + ms ≤ R.slots) :
    va_Run p l e R s m args below meth c H locs k z mc ms g rest (Qc (Value.ref b :: As).toArray) free := by
  obtain ⟨hx, hb, hml, ho, ht⟩ := S
  have hK : Back l R p e below s args y 3 8 (PreOf R mc ms Pc) (PostOf Qc mc ms free) := back_of (bytes := bytes) (maxL := maxL) (ret := ret) hM hp.1 hrc hrs hR.1 hR.2 (pay_in ht hG) hcw (fun a' U hW => word_at hW (Or.inl (by first | rfl | simp [Cond.onTables, Cond.keeps, Cond.steady])) hini)
  obtain ⟨-, ⟨cellB, hcB, hoB, hclB⟩, hPc⟩ := hp
  intro T hT X
  obtain ⟨v, vm₁, ⟨U', l2, c2, s2⟩, hW₁, X', ⟨g', mk, t, L, e1, e2, hq, h1, hL, h2, h3⟩, st⟩ := X.virtualBackUpD hx ho hlink hsame hdecl howner hsel hinst hK (C := C) (b := b) hclB ⟨cellB, by rw [hT]; exact hcB, rfl, hoB⟩ hg (hsize.trans hml.symm) (Steps.refl _) (argsL := As) (rest := rest) (fun sig h => hn.trans (hlen sig h)) hstack hW (by rw [hb]; exact hdg)
    (fun vm₁ hW₁ => ⟨hf.1, hf.2, hPc (T.setVm vm₁) hT hW₁⟩)
  dsimp only [Pt.U, Pt.locs, Pt.cells, Pt.slots] at X' e1 e2 h1 h2 h3 st
  subst h1; subst h2; subst h3
  exact ⟨v, (T.setVm vm₁).calling g' mk (Value.ref b :: As).toArray, t, U', L, hT, X', hL, e1, e2, hq, fun target h => st.trans h⟩
theorem am_runDF {x : MethodName} {count : Nat} {cC : ClassId} (hat : ClassAt s C cC) (S : CallFix p m c cc nL s args Ts own) (hM : Met l y ws rm Pc Qc mc ms free)
    (hrc : rm.cells = mc) (hrs : rm.slots = ms) (hR : rm.frames + 1 ≤ R.frames ∧ 8 + (maxL + 11) + rm.locals ≤ R.locals) (hG : GoodIn Ts ws) (hcw : Cond.code y bytes maxL ret ∈ ws) (hini : (Cond.initialized y.cls).before args s = true)
    (hlink : (Cond.methodLink own index x).before args s = true) (hdecl : (Cond.declares x).before args s = true) (hface : (Cond.interfaceMethod x.cls x.cls x.name x.desc).before args s = true) (hpub : (Cond.publicMethod y).before args s = true) (hcast : (Cond.castable C x.cls).before args s = true) (hmh : x.cls ≠ "java/lang/invoke/MethodHandle" ∧ x.cls ≠ "java/lang/invoke/VarHandle")
    (hsel : (Cond.landsInDefault C x y).before args s = true) (hinst : (Cond.instanceMethod y).before args s = true) (hlen : ∀ sig, parseMethodDescriptor x.desc = some sig → n = sig.parameters.length) (hp : PreV s H C b Pc As)
    (hg : g.method = m) (hn : As.length = n) (hsize : g.locals.size = nL) (hstack : g.stack = As.reverse ++ .ref b :: rest) (hW : 2 * g.monitorRoom + (rest.map fun v => v.category).sum ≤ 8) (hdg : decode cc g.pc = .ok (.invokeinterface index count, 5)) (hf : k + mc ≤ R.cells ∧ z + ms ≤ R.slots) :
    va_Run5 p l e R s m args below meth c H locs k z mc ms g rest (Qc (Value.ref b :: As).toArray) free := by
  obtain ⟨hx, hb, hml, ho, ht⟩ := S
  have hK : Back l R p e below s args y 5 8 (PreOf R mc ms Pc) (PostOf Qc mc ms free) := back_of (bytes := bytes) (maxL := maxL) (ret := ret) hM hp.1 hrc hrs hR.1 hR.2 (pay_in ht hG) hcw (fun a' U hW => word_at hW (Or.inl (by first | rfl | simp [Cond.onTables, Cond.keeps, Cond.steady])) hini)
  obtain ⟨-, ⟨cellB, hcB, hoB, hclB⟩, hPc⟩ := hp
  obtain ⟨hfc, kB, hkB, -⟩ := hat
  have hcc : cC = cellB.cls := Option.some.inj (hfc.symm.trans hclB)
  intro T hT X
  obtain ⟨v, vm₁, ⟨U', l2, c2, s2⟩, hW₁, X', ⟨g', mk, t, L, e1, e2, hq, h1, hL, h2, h3⟩, st⟩ := X.interfaceBackD hx ho hlink hdecl hface hsel hinst hpub hcast hmh hK (C := C) (b := b) hfc hkB ⟨cellB, by rw [hT]; exact hcB, hcc.symm, hoB⟩ hg (hsize.trans hml.symm) (Steps.refl _) (argsL := As) (rest := rest) (fun sig h => hn.trans (hlen sig h)) hstack hW (by rw [hb]; exact hdg)
    (fun vm₁ hW₁ => ⟨hf.1, hf.2, hPc (T.setVm vm₁) hT hW₁⟩)
  dsimp only [Pt.U, Pt.locs, Pt.cells, Pt.slots] at X' e1 e2 h1 h2 h3 st
  subst h1; subst h2; subst h3
  exact ⟨v, (T.setVm vm₁).calling g' mk (Value.ref b :: As).toArray, t, U', L, hT, X', hL, e1, e2, hq, fun target h => st.trans h⟩
end DFL
section DFS
variable {G : amG} {l : Launch} {own nm : String} {R : Room} {idx d mc ms maxL n ci dR mcR msR : Nat} {y : MethodName} {bytes : ByteArray} {ret : Option FieldType} {T : amT}
theorem amLenOf {x : MethodName} {n : Nat} (h : (parseMethodDescriptor x.desc).map (fun d => d.parameters.length) = some n) : ∀ sig, parseMethodDescriptor x.desc = some sig → n = sig.parameters.length := fun sig h' => by
  rw [h'] at h
  exact (Option.some.inj h).symm
theorem amSiteD {C owner : String} {x : MethodName} (hM : amMet l G y (ws_ y bytes maxL ret) d mc ms T) (hRm : R = amRm dR mcR msR) (hd : d + 1 ≤ dR) (hm : maxL ≤ 40) (hw : Cond.code y bytes maxL ret ∈ lw_all) (h1 : Cond.initialized y.cls ∈ lw_all) (h2 : Cond.instanceMethod y ∈ lw_all)
    (g1 : Cond.methodLink own idx x ∈ amGW) (g2 : Cond.sameMethod x.cls owner x.name x.desc ∈ amGW) (g3 : Cond.declares ⟨owner, x.name, x.desc⟩ ∈ amGW) (g4 : Cond.landsInDefault C x y ∈ amGW) (hq : ∃ q, amCl[ci]? = some q ∧ q.1 = C)
    (hy : owner ≠ "java/lang/invoke/MethodHandle" ∧ owner ≠ "java/lang/invoke/VarHandle" ∧ (parseMethodDescriptor x.desc).map (fun d => d.parameters.length) = some n) : amSite G l own nm R (.invokevirtual idx) 3 (n + 1) mc ms (amRecv ci T) := by
  intro cc nL p e s m args below meth c Q pc ls as st h k z K hC hnm hd' hT hn hcat hk hz kk H locs lsv hR hS hL
  obtain ⟨hx, hb, hml, hown, hts, hK, hb0⟩ := hC
  obtain ⟨q, hq, rfl⟩ := hq
  have use : ∀ w, w ∈ amGW → w.before args s = true := fun w hw => amTb.go (amGW_mv w hw).1 rfl (hK.2.2.2.2.2.2.2.1 w hw)
  cases as with
  | nil => exact hT.elim
  | cons a t =>
    cases a with
    | ref b =>
      obtain ⟨hs, hT⟩ := hT
      refine amRun (am_runD (As := t.map (amV G)) (rest := st.map (amV G)) (owner := owner) (x := x) (ws := ws_ y bytes maxL ret) ⟨hx, hb, hml, hown, hts⟩ (hM _ h K hT) rfl rfl (amRoom hRm hd hm) (lw_meth hw) List.mem_cons_self (hts _ h1) (use _ g1) (use _ g2) (use _ g3) ⟨hy.1, hy.2.1⟩ (use _ g4) (hts _ h2) (amLenOf hy.2.2) (amPreV hK hR hS hq hs) rfl (by simp only [List.length_map, List.length_cons] at hn ⊢; omega) hL.2.1 ?_ (lv_room (by rw [amCats]; exact hcat)) hd' ⟨hk, hz⟩) hS hL kk
      show ((.ref b :: t).reverse ++ st).map (amV G) = _
      rw [amStk]
      simp [amV]
    | _ => exact hT.elim
theorem amSiteDF {C : String} {x : MethodName} {cnt : Nat} (hM : amMet l G y (ws_ y bytes maxL ret) d mc ms T) (hRm : R = amRm dR mcR msR) (hd : d + 1 ≤ dR) (hm : maxL ≤ 40) (hw : Cond.code y bytes maxL ret ∈ lw_all) (h1 : Cond.initialized y.cls ∈ lw_all) (h2 : Cond.instanceMethod y ∈ lw_all)
    (g1 : Cond.methodLink own idx x ∈ lw_all) (g2 : Cond.declares x ∈ amGW) (g3 : Cond.interfaceMethod x.cls x.cls x.name x.desc ∈ amGW) (g4 : Cond.landsInDefault C x y ∈ amGW) (g5 : Cond.publicMethod y ∈ amGW) (g6 : Cond.castable C x.cls ∈ amGW) (hq : ∃ q, amCl[ci]? = some q ∧ q.1 = C)
    (hy : x.cls ≠ "java/lang/invoke/MethodHandle" ∧ x.cls ≠ "java/lang/invoke/VarHandle" ∧ (parseMethodDescriptor x.desc).map (fun d => d.parameters.length) = some n) : amSite G l own nm R (.invokeinterface idx cnt) 5 (n + 1) mc ms (amRecv ci T) := by
  intro cc nL p e s m args below meth c Q pc ls as st h k z K hC hnm hd' hT hn hcat hk hz kk H locs lsv hR hS hL
  obtain ⟨hx, hb, hml, hown, hts, hK, hb0⟩ := hC
  obtain ⟨q, hq, rfl⟩ := hq
  have use : ∀ w, w ∈ amGW → w.before args s = true := fun w hw => amTb.go (amGW_mv w hw).1 rfl (hK.2.2.2.2.2.2.2.1 w hw)
  cases as with
  | nil => exact hT.elim
  | cons a t =>
    cases a with
    | ref b =>
      obtain ⟨hs, hT⟩ := hT
      have hcls := (hK.1.1 ci _ hq).2
      refine amRun5 (am_runDF hcls (As := t.map (amV G)) (rest := st.map (amV G)) (x := x) (ws := ws_ y bytes maxL ret) ⟨hx, hb, hml, hown, hts⟩ (hM _ h K hT) rfl rfl (amRoom hRm hd hm) (lw_meth hw) List.mem_cons_self (hts _ h1) (hts _ g1) (use _ g2) (use _ g3) (use _ g5) (use _ g6) ⟨hy.1, hy.2.1⟩ (use _ g4) (hts _ h2) (amLenOf hy.2.2) (amPreV hK hR hS hq hs) rfl (by simp only [List.length_map, List.length_cons] at hn ⊢; omega) hL.2.1 ?_ (lv_room (by rw [amCats]; exact hcat)) hd' ⟨hk, hz⟩) hS hL kk
      show ((.ref b :: t).reverse ++ st).map (amV G) = _
      rw [amStk]
      simp [amV]
    | _ => exact hT.elim
end DFS
