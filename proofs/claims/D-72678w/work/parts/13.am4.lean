/-! AM: making, calling, returning -/
set_option maxRecDepth 100000
theorem amKn.same {G : amG} {u U : State} (hv : U.vm = u.vm) (hh : U.heap = u.heap) (h : amKn G u) : amKn G U := by
  obtain ⟨h1, h2, h3, h4, h5, h6, h7, h8, h9, h10, h11, h12⟩ := h
  have hA : u.vm.Alike U.vm := by rw [hv]; exact Vm.Alike.refl _
  refine ⟨va_K.moved hA h1, fun q hq => (h2 q hq).same rfl hv.symm, fun q hq => (h3 q hq).same rfl hv.symm, fun q hq => va_Fw.moved ?_ hA (h4 q hq), fun C hC => (h5 C hC).moved hA, fun q hq => ?_, fun q hq => (h7 q hq).same hv, fun w hw => amTb.go (amGW_mv w hw).1 hv (h8 w hw), fun q hq => amLamAt (by rw [hv]; exact State.WarmedH.refl u) (h9 q hq), fun q hq => ?_, fun q hq => (h11 q hq).moved hA, h12.moved hA⟩
  · have hall : ∀ q ∈ amFW, q.2.1.cls ≠ "java/lang/invoke/MethodHandle" ∧ q.2.1.cls ≠ "java/lang/invoke/VarHandle" := by decide +kernel
    exact hall q hq
  · rw [hh]
    exact (h6 q hq).moved hA
  · rw [hh]
    exact (h10 q hq).moved hA
/-- what a method asks and gives, of abstract heaps: all that may come behind it -/
abbrev amT : Type := List Value → amH → (Option Value → amH → Prop) → Prop
def amRm (d mc ms : Nat) : Room := { frames := d, cells := mc, slots := ms, locals := 12000 + 64 * d }
def amQ (G : amG) (K : Option Value → amH → Prop) : Array Value → State → Outcome → State → Prop := fun _ st oc t => (∃ (v : Option Value) (h : amH), oc = .returned (v.map (amV G)) ∧ K v h ∧ amRep G h t.heap) ∧ va_F (amA G) st t
def amPc (G : amG) (as : List Value) (h : amH) : Array Value → State → Prop := va_Pc (as.map (amV G)) (fun U => amRep G h U.heap ∧ amKn G U)
def amMet (l : Launch) (G : amG) (y : MethodName) (ws : List Cond) (d mc ms : Nat) (T : amT) : Prop :=
  ∀ (as : List Value) (h : amH) (K : Option Value → amH → Prop), T as h K → Met l y ws (amRm d mc ms) (amPc G as h) (amQ G K) mc ms (amA G)
theorem amPc.blind {G : amG} {as : List Value} {h : amH} : FrameBlind (amPc G as h) := fun a U g mk q => ⟨q.1, q.2.1, amKn.same (u := U) (U := U.calling g mk a) rfl rfl q.2.2⟩
theorem amBase {G : amG} {h : amH} {H : Heap} (hR : amRep G h H) : G.2.2.1 ≤ H.size := by rw [hR.2.1]; omega
section AMCALL
variable {G : amG} {own : String} {cc : ByteArray} {nL : Nat} {p : Program} {l : Launch} {e : Env} {R : Room} {s : State} {m : MethodId} {args : Array Value} {below : List Frame} {meth : Method} {c : Code} {Q : State → Prop}
variable {pc : Nat} {ls st : List Value} {h : amH} {k z : Nat}
theorem amRun {mc ms : Nat} {lsv : Array Slot} {st0 : List Value} {H : Heap} {locs : List Loc} {K : Option Value → amH → Prop} {a : Array Value} (hr : va_Run p l e R s m args below meth c H locs k z mc ms (F0 m pc lsv st0) (st.map (amV G)) (amQ G K a) (amA G)) (hS : va_S (amA G) s.heap H locs) (hL : amL G nL lsv ls)
    (kk : ∀ (v : Option Value) (h' : amH), K v h' → amF G p l e R s m args below meth c nL Q (pc + 3) ls (v.toList ++ st) h' (k + mc) (z + ms)) : W p l e R s m args below meth c H locs k z Q (F0 m pc lsv st0) := by
  intro T hT X
  obtain ⟨v, st₀, t, T', L, h0, X', hL', e1, e2, ⟨⟨v', h', hv, hK, hR'⟩, hz, hk⟩, stp⟩ := hr T hT X
  cases hv
  rw [h0] at hz hk
  have hS' : va_S (amA G) s.heap T'.heap (locs ++ L) := ⟨Nat.le_trans hS.1 (by rw [e1]; exact hz), fun q h1 h2 => by rw [e1, hk q (Nat.lt_of_lt_of_le h1 hS.1) h2]; exact hS.2.1 q h1 h2, fun q hq => by
      rcases List.mem_append.mp hq with h | h
      · exact hS.2.2 q h
      · exact hL' q h⟩
  obtain ⟨t2, a1, b1⟩ := kk v' h' hK T'.heap (locs ++ L) lsv (by rw [e1]; exact hR') hS' hL T' rfl X'
  refine ⟨t2, stp t2 ?_, b1⟩
  have e3 : (v'.toList ++ st).map (amV G) = (v'.map (amV G)).toList ++ st.map (amV G) := by cases v' <;> simp
  rw [e3] at a1
  exact a1
theorem amRun5 {mc ms : Nat} {lsv : Array Slot} {st0 : List Value} {H : Heap} {locs : List Loc} {K : Option Value → amH → Prop} {a : Array Value} (hr : va_Run5 p l e R s m args below meth c H locs k z mc ms (F0 m pc lsv st0) (st.map (amV G)) (amQ G K a) (amA G)) (hS : va_S (amA G) s.heap H locs) (hL : amL G nL lsv ls)
    (kk : ∀ (v : Option Value) (h' : amH), K v h' → amF G p l e R s m args below meth c nL Q (pc + 5) ls (v.toList ++ st) h' (k + mc) (z + ms)) : W p l e R s m args below meth c H locs k z Q (F0 m pc lsv st0) := by
  intro T hT X
  obtain ⟨v, st₀, t, T', L, h0, X', hL', e1, e2, ⟨⟨v', h', hv, hK, hR'⟩, hz, hk⟩, stp⟩ := hr T hT X
  cases hv
  rw [h0] at hz hk
  have hS' : va_S (amA G) s.heap T'.heap (locs ++ L) := ⟨Nat.le_trans hS.1 (by rw [e1]; exact hz), fun q h1 h2 => by rw [e1, hk q (Nat.lt_of_lt_of_le h1 hS.1) h2]; exact hS.2.1 q h1 h2, fun q hq => by
      rcases List.mem_append.mp hq with h | h
      · exact hS.2.2 q h
      · exact hL' q h⟩
  obtain ⟨t2, a1, b1⟩ := kk v' h' hK T'.heap (locs ++ L) lsv (by rw [e1]; exact hR') hS' hL T' rfl X'
  refine ⟨t2, stp t2 ?_, b1⟩
  have e3 : (v'.toList ++ st).map (amV G) = (v'.map (amV G)).toList ++ st.map (amV G) := by cases v' <;> simp
  rw [e3] at a1
  exact a1
end AMCALL
/-- a call's site: what the machine does there is what T says -/
def amSite (G : amG) (l : Launch) (own nm : String) (R : Room) (i : Instr) (len n mc ms : Nat) (T : amT) : Prop :=
  ∀ {cc : ByteArray} {nL : Nat} {p : Program} {e : Env} {s : State} {m : MethodId} {args : Array Value} {below : List Frame} {meth : Method} {c : Code} {Q : State → Prop} {pc : Nat} {ls as st : List Value} {h : amH} {k z : Nat} {K : Option Value → amH → Prop},
    amC G own cc nL p s m args c → meth.name = nm → decode cc pc = .ok (i, len) → T as h K → as.length = n → (st.map fun v => v.category).sum ≤ 8 → k + mc ≤ R.cells → z + ms ≤ R.slots →
    (∀ (v : Option Value) (h' : amH), K v h' → amF G p l e R s m args below meth c nL Q (pc + len) ls (v.toList ++ st) h' (k + mc) (z + ms)) → amF G p l e R s m args below meth c nL Q pc ls (as.reverse ++ st) h k z
/-- the same, at one place of a known method -/
def amSiteP (pc : Nat) (G : amG) (l : Launch) (own nm ds : String) (R : Room) (i : Instr) (len n mc ms : Nat) (T : amT) : Prop :=
  ∀ {cc : ByteArray} {nL : Nat} {p : Program} {e : Env} {s : State} {m : MethodId} {args : Array Value} {below : List Frame} {meth : Method} {c : Code} {Q : State → Prop} {ls as st : List Value} {h : amH} {k z : Nat} {K : Option Value → amH → Prop},
    amC G own cc nL p s m args c → (meth.name = nm ∧ s.methodNamed? ⟨own, nm, ds⟩ = some m) → decode cc pc = .ok (i, len) → T as h K → as.length = n → (st.map fun v => v.category).sum ≤ 8 → k + mc ≤ R.cells → z + ms ≤ R.slots →
    (∀ (v : Option Value) (h' : amH), K v h' → amF G p l e R s m args below meth c nL Q (pc + len) ls (v.toList ++ st) h' (k + mc) (z + ms)) → amF G p l e R s m args below meth c nL Q pc ls (as.reverse ++ st) h k z
theorem amSite.P {pc : Nat} {G : amG} {l : Launch} {own nm ds : String} {R : Room} {i : Instr} {len n mc ms : Nat} {T : amT} (h : amSite G l own nm R i len n mc ms T) : amSiteP pc G l own nm ds R i len n mc ms T := fun hC hnm hd hT h1 h2 h3 h4 kk => h hC hnm.1 hd hT h1 h2 h3 h4 kk
/-- a receiver of a class -/
def amRecv (ci : Nat) (T : amT) : amT := fun as h K => match as with
  | .ref b :: t => h.1 b = (0, ci) ∧ T (.ref b :: t) h K
  | _ => False
theorem amCats (G : amG) (st : List Value) : ((st.map (amV G)).map fun v => v.category).sum = (st.map fun v => v.category).sum := by
  rw [List.map_map]
  congr 1
  exact List.map_congr_left (fun v _ => amV_cat G v)
theorem amPreS {G : amG} {s : State} {H : Heap} {locs : List Loc} {as : List Value} {h : amH} (hK : amKn G s) (hR : amRep G h H) (hS : va_S (amA G) s.heap H locs) : PreS s H (amPc G as h) (as.map (amV G)) :=
  ⟨amPc.blind, fun _ hU hW => ⟨rfl, by rw [hU]; exact hR, hK.moved hS hU hW⟩⟩
theorem amPreV {G : amG} {s : State} {H : Heap} {locs : List Loc} {b ci : Nat} {q : vw_C} {t : List Value} {h : amH} (hK : amKn G s) (hR : amRep G h H) (hS : va_S (amA G) s.heap H locs) (hq : amCl[ci]? = some q) (hs : h.1 b = (0, ci)) : PreV s H q.1 (amAd G b) (amPc G (.ref b :: t) h) (t.map (amV G)) := by
  refine ⟨amPc.blind, ?_, fun _ hU hW => ⟨rfl, by rw [hU]; exact hR, hK.moved hS hU hW⟩⟩
  obtain ⟨q', h1, cell, g1, g2, g3, -⟩ := hR.obj hs
  have e : q' = q := Option.some.inj (h1.symm.trans hq)
  subst e
  exact ⟨cell, g1, g3.1.1, by rw [g2]; exact (hK.1.1 ci _ hq).2.1⟩
/-- room for a callee -/
theorem amRoom {R : Room} {d mc ms dR mcR msR maxL : Nat} (hRm : R = amRm dR mcR msR) (hd : d + 1 ≤ dR) (hL : maxL ≤ 40) : (amRm d mc ms).frames + 1 ≤ R.frames ∧ 8 + (maxL + 11) + (amRm d mc ms).locals ≤ R.locals := by
  subst hRm
  show d + 1 ≤ dR ∧ 8 + (maxL + 11) + (12000 + 64 * d) ≤ 12000 + 64 * dR
  omega
theorem amStk (G : amG) (as st : List Value) : (as.reverse ++ st).map (amV G) = (as.map (amV G)).reverse ++ st.map (amV G) := by rw [List.map_append, List.map_reverse]
section AMSITES
variable {G : amG} {l : Launch} {own nm : String} {R : Room} {idx d mc ms maxL n ci dR mcR msR : Nat} {y : MethodName} {bytes : ByteArray} {ret : Option FieldType} {T : amT}
/-- an object's own method (private ones too) -/
theorem amSiteV {C : String} (hM : amMet l G y (ws_ y bytes maxL ret) d mc ms T) (hRm : R = amRm dR mcR msR) (hd : d + 1 ≤ dR) (hm : maxL ≤ 40) (hw : GoodIn lw_all (wsV own idx C y (ws_ y bytes maxL ret))) (hq : ∃ q, amCl[ci]? = some q ∧ q.1 = C)
    (hy : y.cls = C ∧ y.cls ≠ "java/lang/invoke/MethodHandle" ∧ y.cls ≠ "java/lang/invoke/VarHandle" ∧ (parseMethodDescriptor y.desc).map (fun d => d.parameters.length) = some n) : amSite G l own nm R (.invokevirtual idx) 3 (n + 1) mc ms (amRecv ci T) := by
  intro cc nL p e s m args below meth c Q pc ls as st h k z K hC hnm hd' hT hn hcat hk hz kk H locs lsv hR hS hL
  obtain ⟨hx, hb, hml, hown, hts, hK, hb0⟩ := hC
  obtain ⟨q, hq, rfl⟩ := hq
  cases as with
  | nil => exact hT.elim
  | cons a t =>
    cases a with
    | ref b =>
      obtain ⟨hs, hT⟩ := hT
      have hs1 : lsv.size = nL := hL.2.1
      refine amRun (va_runV (As := t.map (amV G)) (rest := st.map (amV G)) ⟨hx, hb, hml, hown, hts⟩ (hM _ h K hT) (cwV n hts hw rfl rfl rfl hy (amRoom hRm hd hm)) (amPreV hK hR hS hq hs) rfl (by simp only [List.length_map, List.length_cons] at hn ⊢; omega) hs1 ?_ (lv_room (by rw [amCats]; exact hcat)) hd' ⟨hk, hz⟩) hS hL kk
      show ((.ref b :: t).reverse ++ st).map (amV G) = _
      rw [amStk]
      simp [amV]
    | _ => exact hT.elim
/-- a nest mate's private method -/
theorem amSiteVN {C host : String} (hM : amMet l G y (ws_ y bytes maxL ret) d mc ms T) (hRm : R = amRm dR mcR msR) (hd : d + 1 ≤ dR) (hm : maxL ≤ 40) (hw : Cond.code y bytes maxL ret ∈ lw_all) (hl : (own, idx, y, host) ∈ amNM) (h1 : Cond.instanceMethod y ∈ lw_all) (h2 : Cond.selects C y y ∈ lw_all) (h3 : Cond.initialized y.cls ∈ lw_all) (hq : ∃ q, amCl[ci]? = some q ∧ q.1 = C)
    (hy : y.cls ≠ "java/lang/invoke/MethodHandle" ∧ y.cls ≠ "java/lang/invoke/VarHandle" ∧ (parseMethodDescriptor y.desc).map (fun d => d.parameters.length) = some n) : amSite G l own nm R (.invokevirtual idx) 3 (n + 1) mc ms (amRecv ci T) := by
  intro cc nL p e s m args below meth c Q pc ls as st h k z K hC hnm hd' hT hn hcat hk hz kk H locs lsv hR hS hL
  obtain ⟨hx, hb, hml, hown, hts, hK, hb0⟩ := hC
  obtain ⟨q, hq, rfl⟩ := hq
  cases as with
  | nil => exact hT.elim
  | cons a t =>
    cases a with
    | ref b =>
      obtain ⟨hs, hT⟩ := hT
      refine amRun (va_runVN (As := t.map (amV G)) (rest := st.map (amV G)) (host := host) ⟨hx, hb, hml, hown, hts⟩ (hM _ h K hT) ⟨va_cnB n hts (lw_meth hw) rfl rfl rfl (hK.2.2.1 _ hl) (hts _ h3) hy (amRoom hRm hd hm), hts _ h1, hts _ h2⟩ (amPreV hK hR hS hq hs) rfl (by simp only [List.length_map, List.length_cons] at hn ⊢; omega) hL.2.1 ?_ (lv_room (by rw [amCats]; exact hcat)) hd' ⟨hk, hz⟩) hS hL kk
      show ((.ref b :: t).reverse ++ st).map (amV G) = _
      rw [amStk]
      simp [amV]
    | _ => exact hT.elim
theorem amSiteS (hM : amMet l G y (ws_ y bytes maxL ret) d mc ms T) (hRm : R = amRm dR mcR msR) (hd : d + 1 ≤ dR) (hm : maxL ≤ 40) (hw : GoodIn lw_all (va_wsS own idx y (ws_ y bytes maxL ret)))
    (hy : y.cls ≠ "java/lang/invoke/MethodHandle" ∧ y.cls ≠ "java/lang/invoke/VarHandle" ∧ (parseMethodDescriptor y.desc).map (fun d => d.parameters.length) = some n) : amSite G l own nm R (.invokestatic idx) 3 n mc ms T := by
  intro cc nL p e s m args below meth c Q pc ls as st h k z K hC hnm hd' hT hn hcat hk hz kk H locs lsv hR hS hL
  obtain ⟨hx, hb, hml, hown, hts, hK, hb0⟩ := hC
  refine amRun (va_runS (As := as.map (amV G)) (rest := st.map (amV G)) ⟨hx, hb, hml, hown, hts⟩ (hM _ h K hT) (va_cwS n hts hw rfl rfl rfl hy (amRoom hRm hd hm)) (amPreS hK hR hS) rfl (by rw [List.length_map]; exact hn) hL.2.1 (amStk G as st) (lv_room (by rw [amCats]; exact hcat)) hd' ⟨hk, hz⟩) hS hL kk
theorem amSiteSN {host : String} (hM : amMet l G y (ws_ y bytes maxL ret) d mc ms T) (hRm : R = amRm dR mcR msR) (hd : d + 1 ≤ dR) (hm : maxL ≤ 40) (hw : Cond.code y bytes maxL ret ∈ lw_all) (hl : (own, idx, y, host) ∈ amNM) (h1 : Cond.static y ∈ lw_all) (h3 : Cond.initialized y.cls ∈ lw_all)
    (hy : y.cls ≠ "java/lang/invoke/MethodHandle" ∧ y.cls ≠ "java/lang/invoke/VarHandle" ∧ (parseMethodDescriptor y.desc).map (fun d => d.parameters.length) = some n) : amSite G l own nm R (.invokestatic idx) 3 n mc ms T := by
  intro cc nL p e s m args below meth c Q pc ls as st h k z K hC hnm hd' hT hn hcat hk hz kk H locs lsv hR hS hL
  obtain ⟨hx, hb, hml, hown, hts, hK, hb0⟩ := hC
  refine amRun (va_runSN (As := as.map (amV G)) (rest := st.map (amV G)) (host := host) ⟨hx, hb, hml, hown, hts⟩ (hM _ h K hT) ⟨va_cnB n hts (lw_meth hw) rfl rfl rfl (hK.2.2.1 _ hl) (hts _ h3) hy (amRoom hRm hd hm), hts _ h1, trivial⟩ (amPreS hK hR hS) rfl (by rw [List.length_map]; exact hn) hL.2.1 (amStk G as st) (lv_room (by rw [amCats]; exact hcat)) hd' ⟨hk, hz⟩) hS hL kk
/-- a constructor -/
def amIsRef (T : amT) : amT := fun as h K => match as with
  | .ref b :: t => T (.ref b :: t) h K
  | _ => False
theorem amSiteI (hM : amMet l G y (ws_ y bytes maxL none) d mc ms T) (hRm : R = amRm dR mcR msR) (hd : d + 1 ≤ dR) (hm : maxL ≤ 40) (hw : Cond.code y bytes maxL none ∈ lw_all) (h1 : Cond.initialized y.cls ∈ lw_all) (h2 : Cond.methodLink own idx y ∈ lw_all) (h3 : Cond.instanceMethod y ∈ lw_all)
    (hy : y.name = "<init>" ∧ y.cls ≠ "java/lang/invoke/MethodHandle" ∧ y.cls ≠ "java/lang/invoke/VarHandle" ∧ (parseMethodDescriptor y.desc).map (fun d => d.parameters.length) = some n) : amSite G l own nm R (.invokespecial idx) 3 (n + 1) mc ms (amIsRef T) := by
  intro cc nL p e s m args below meth c Q pc ls as st h k z K hC hnm hd' hT hn hcat hk hz kk H locs lsv hR hS hL
  obtain ⟨hx, hb, hml, hown, hts, hK, hb0⟩ := hC
  cases as with
  | nil => exact hT.elim
  | cons a t =>
    cases a with
    | ref b =>
      refine amRun (va_runI (b := amAd G b) (As := t.map (amV G)) (rest := st.map (amV G)) ⟨hx, hb, hml, hown, hts⟩ (hM _ h K hT) (cwI n hts (lw_meth hw) rfl rfl rfl (hts _ h1) (hts _ h2) (hts _ h3) hy.1 hy.2 (amRoom hRm hd hm)) (amPreS hK hR hS) rfl (by simp only [List.length_map, List.length_cons] at hn ⊢; omega) hL.2.1 ?_ (lv_room (by rw [amCats]; exact hcat)) hd' ⟨hk, hz⟩) hS hL kk
      show ((.ref b :: t).reverse ++ st).map (amV G) = _
      rw [amStk]
      simp [amV]
    | _ => exact hT.elim
theorem amSiteIN {host : String} (hM : amMet l G y (ws_ y bytes maxL none) d mc ms T) (hRm : R = amRm dR mcR msR) (hd : d + 1 ≤ dR) (hm : maxL ≤ 40) (hw : Cond.code y bytes maxL none ∈ lw_all) (hl : (own, idx, y, host) ∈ amNM) (h1 : Cond.initialized y.cls ∈ lw_all) (h3 : Cond.instanceMethod y ∈ lw_all)
    (hy : y.name = "<init>" ∧ y.cls ≠ "java/lang/invoke/MethodHandle" ∧ y.cls ≠ "java/lang/invoke/VarHandle" ∧ (parseMethodDescriptor y.desc).map (fun d => d.parameters.length) = some n) : amSite G l own nm R (.invokespecial idx) 3 (n + 1) mc ms (amIsRef T) := by
  intro cc nL p e s m args below meth c Q pc ls as st h k z K hC hnm hd' hT hn hcat hk hz kk H locs lsv hR hS hL
  obtain ⟨hx, hb, hml, hown, hts, hK, hb0⟩ := hC
  cases as with
  | nil => exact hT.elim
  | cons a t =>
    cases a with
    | ref b =>
      refine amRun (va_runIN (b := amAd G b) (As := t.map (amV G)) (rest := st.map (amV G)) (host := host) ⟨hx, hb, hml, hown, hts⟩ (hM _ h K hT) ⟨va_cnB n hts (lw_meth hw) rfl rfl rfl (hK.2.2.1 _ hl) (hts _ h1) hy.2 (amRoom hRm hd hm), hy.1, hts _ h3⟩ (amPreS hK hR hS) rfl (by simp only [List.length_map, List.length_cons] at hn ⊢; omega) hL.2.1 ?_ (lv_room (by rw [amCats]; exact hcat)) hd' ⟨hk, hz⟩) hS hL kk
      show ((.ref b :: t).reverse ++ st).map (amV G) = _
      rw [amStk]
      simp [amV]
    | _ => exact hT.elim
/-- Object's own constructor: nothing happens -/
theorem amSiteO (hRm : R = amRm dR mcR msR) (hd : 1 ≤ dR) (h1 : Cond.methodLink own idx Lib.objectInit ∈ lw_all) (h2 : Cond.instanceMethod Lib.objectInit ∈ lw_all) (h3 : Cond.code Lib.objectInit ⟨#[0xb1]⟩ 1 none ∈ lw_all) : amSite G l own nm R (.invokespecial idx) 3 1 0 0 (amIsRef (fun _ h K => K none h)) := by
  intro cc nL p e s m args below meth c Q pc ls as st h k z K hC hnm hd' hT hn hcat hk hz kk H locs lsv hR hS hL
  obtain ⟨hx, hb, hml, hown, hts, hK, hb0⟩ := hC
  cases as with
  | nil => exact hT.elim
  | cons a t =>
    cases a with
    | ref b =>
      have ht : t = [] := by
        cases t with
        | nil => rfl
        | cons _ _ => simp at hn
      subst ht
      have hs1 : lsv.size = nL := hL.2.1
      refine W.objInit hx hb hown (hts _ h1) (hts _ h2) (hts _ h3) rfl (by rw [hml]; exact hs1) rfl hd' (by rw [hRm]; exact hd) (by rw [hRm]; show 2 * 0 + ((st.map (amV G)).map fun v => v.category).sum + 12 ≤ 12000 + 64 * dR; rw [amCats]; omega) ?_
      exact kk none h hT H locs lsv hR hS hL
    | _ => exact hT.elim
/-- an interface's method, the object's class known -/
theorem amSiteF {x : MethodName} {C : String} {cnt : Nat} (hM : amMet l G y (ws_ y bytes maxL ret) d mc ms T) (hRm : R = amRm dR mcR msR) (hd : d + 1 ≤ dR) (hm : maxL ≤ 40) (hw : GoodIn lw_all (va_wsF own idx C x y (ws_ y bytes maxL ret))) (hF : (C, x, y) ∈ amFW) (hq : ∃ q, amCl[ci]? = some q ∧ q.1 = C)
    (hy : x.cls ≠ "java/lang/invoke/MethodHandle" ∧ x.cls ≠ "java/lang/invoke/VarHandle" ∧ (parseMethodDescriptor x.desc).map (fun d => d.parameters.length) = some n) : amSite G l own nm R (.invokeinterface idx cnt) 5 (n + 1) mc ms (amRecv ci T) := by
  intro cc nL p e s m args below meth c Q pc ls as st h k z K hC hnm hd' hT hn hcat hk hz kk H locs lsv hR hS hL
  obtain ⟨hx, hb, hml, hown, hts, hK, hb0⟩ := hC
  obtain ⟨q, hq, rfl⟩ := hq
  cases as with
  | nil => exact hT.elim
  | cons a t =>
    cases a with
    | ref b =>
      obtain ⟨hs, hT⟩ := hT
      have hcls := (hK.1.1 ci _ hq).2
      refine amRun5 (va_runF hcls (As := t.map (amV G)) (rest := st.map (amV G)) ⟨hx, hb, hml, hown, hts⟩ (hM _ h K hT) (va_cwF n hts hw rfl rfl rfl (hK.2.2.2.1 _ hF) hy (amRoom hRm hd hm)) (amPreV hK hR hS hq hs) rfl (by simp only [List.length_map, List.length_cons] at hn ⊢; omega) hL.2.1 ?_ (lv_room (by rw [amCats]; exact hcat)) hd' ⟨hk, hz⟩) hS hL kk
      show ((.ref b :: t).reverse ++ st).map (amV G) = _
      rw [amStk]
      simp [amV]
    | _ => exact hT.elim
end AMSITES
