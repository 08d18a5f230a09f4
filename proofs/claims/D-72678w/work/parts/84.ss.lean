/-! AM: statics, constant strings, calls up the classes -/
set_option maxRecDepth 100000
/-- a contract that may lean on the constants -/
theorem amMet.cst {l : Launch} {G : amG} {y : MethodName} {ws : List Cond} {d mc ms : Nat} {T : amT} (hM : amMet l G y ws d mc ms (fun as h K => amCst h ∧ T as h K)) : amMet l G y ws d mc ms T := by
  intro as h K hT p e h1 h2 h3 s m args below h4 h5 h6 h7
  have hc : amCst h := by
    have q : amPc G as h args s := h6
    exact q.2.1.2.2.2.2.2
  exact hM as h K ⟨hc, hT⟩ p e h1 h2 h3 s m args below h4 h5 h6 h7
theorem amMetX.cst {l : Launch} {G : amG} {y : MethodName} {ws : List Cond} {d mc ms : Nat} {T : amXT} (hM : amMetX l G y ws d mc ms (fun as h K KX => amCst h ∧ T as h K KX)) : amMetX l G y ws d mc ms T := by
  intro as h K KX hT p e h1 h2 h3 s m args below h4 h5 h6 h7
  have hc : amCst h := by
    have q : amPc G as h args s := h6
    exact q.2.1.2.2.2.2.2
  exact hM as h K KX ⟨hc, hT⟩ p e h1 h2 h3 s m args below h4 h5 h6 h7
/-- ldc_w of a text -/
theorem amLdcwS {p : Program} {l : Launch} {e : Env} {R : Room} {s : State} {m : MethodId} {args : Array Value} {below : List Frame} {meth : Method} {c : Code} {T : State} {locs : List Loc} {cells slots : Nat}
    (X : Stand p l e R s m args below meth c T locs cells slots) (hexec : p.tables.exec = Jvm.exec) {own text : String} {index : Nat} {a : Addr} (hown : s.vm.findClass own = some m.cls)
    (hconst : (Cond.stringRef own index text).before args s = true) (hev : (Term.string own index).eval args s none [] s = some (.ref a)) {g : JFrame} (hg : g.method = m) (hdg : decode c.code g.pc = .ok (.ldc_w index, 3)) :
    ∀ target, Steps p.tables e below (T.setTop { g with pc := g.pc + 3, stack := .ref a :: g.stack }) target → Steps p.tables e below (T.setTop g) target := by
  obtain ⟨k, cf, i, a', hk, hcf, hcp, -, hr, hev'⟩ := Cond.stringRef_spec hown hconst
  cases hev.symm.trans hev'
  obtain ⟨k', hk', he⟩ := X.warmed.alike.2.2 _ _ hk
  have hr' : k'.resolved[index]? = some (some (.string a)) := by
    rcases X.warmed.entry hk hk' index with h | ⟨h, -⟩
    · rw [h]; exact hr
    · rw [hr] at h; cases h
  intro target hrest
  subst hg
  jvm_step X.here [hexec, hdg, ldc_w.wp_string (e := e) (s := T) (f := g) X.here.top hk' (by rw [he]; exact hcf) hcp hr']
  exact hrest
def amTgsx (i : Nat) : amT := fun _ h K => K (some .null) h ∧ K (some (.ref i)) h
def amTinS : amT := fun as h K => match as with
  | [.ref a] => h.1 a = (0, 7) ∧ K (some (.int 1)) h
  | _ => False
def amTcaS : amT := fun as h K => match as with
  | [.ref a] => h.1 a = (0, 7) ∧ K (some (.ref a)) h
  | _ => False
section AMSS
variable {G : amG} {l : Launch} {own nm : String} {R : Room} {idx d mc ms maxL n ci dR mcR msR : Nat} {y : MethodName} {bytes : ByteArray} {ret : Option FieldType} {T : amT}
theorem amSiteGs {C N D : String} {v : Value} (hq : (C, N, D, v) ∈ amSt) (hl : Cond.fieldLink own idx C N D ∈ lw_all) : amSite G l own nm R (.getstatic idx) 3 0 0 0 (amTcon v) := by
  intro cc nL p e s m args below meth c Q pc ls as st h k z K hC hnm hd hT hn hcat hk hz kk H locs lsv hR hS hL
  obtain ⟨hx, hb, hml, hown, hts, hK, hb0⟩ := hC
  cases as with
  | nil => exact va_gets hx hb (hK.2.2.2.2.2.1 _ hq) hS hown (hts _ hl) (fun _ h => h) hd (kk _ _ hT H locs lsv hR hS hL)
  | cons _ _ => simp at hn
theorem amSiteGx {C N D : String} {i : Nat} (hq : (C, N, D, i) ∈ amSx) (hl : Cond.fieldLink own idx C N D ∈ lw_all) : amSite G l own nm R (.getstatic idx) 3 0 0 0 (amTgsx i) := by
  intro cc nL p e s m args below meth c Q pc ls as st h k z K hC hnm hd hT hn hcat hk hz kk H locs lsv hR hS hL
  obtain ⟨hx, hb, hml, hown, hts, hK, hb0⟩ := hC
  cases as with
  | nil =>
    rcases (hK.2.2.2.2.2.2.2.2.2.1 _ hq).2 with hZ | hZ
    · exact va_gets hx hb hZ hS hown (hts _ hl) (fun _ h => h) hd (kk _ _ hT.1 H locs lsv hR hS hL)
    · exact va_gets hx hb hZ hS hown (hts _ hl) (fun _ h => h) hd (kk _ _ hT.2 H locs lsv hR hS hL)
  | cons _ _ => simp at hn
theorem amSiteStr {tx : String} {i : Nat} (hq : (own, idx, tx, i) ∈ amSr) : amSite G l own nm R (.ldc idx) 2 0 0 0 (amTcon (.ref i)) := by
  intro cc nL p e s m args below meth c Q pc ls as st h k z K hC hnm hd hT hn hcat hk hz kk H locs lsv hR hS hL
  obtain ⟨hx, hb, hml, hown, hts, hK, hb0⟩ := hC
  cases as with
  | nil => exact va_ldcS hx hb hown (hK.2.2.2.2.2.2.1 _ hq) hd (kk _ _ hT H locs lsv hR hS hL)
  | cons _ _ => simp at hn
theorem amSiteStrW {tx : String} {i : Nat} (hq : (own, idx, tx, i) ∈ amSr) : amSite G l own nm R (.ldc_w idx) 3 0 0 0 (amTcon (.ref i)) := by
  intro cc nL p e s m args below meth c Q pc ls as st h k z K hC hnm hd hT hn hcat hk hz kk H locs lsv hR hS hL
  obtain ⟨hx, hb, hml, hown, hts, hK, hb0⟩ := hC
  cases as with
  | nil =>
    have hZ := hK.2.2.2.2.2.2.1 _ hq
    intro T hT' X
    obtain ⟨t, a1, b1⟩ := kk _ _ hT H locs lsv hR hS hL T hT' X
    exact ⟨t, amLdcwS X hx hown (text := tx) (a := amAd G i) hZ.1 hZ.2 (g := F0 m pc lsv (st.map (amV G))) rfl (by rw [hb]; exact hd) t a1, b1⟩
  | cons _ _ => simp at hn
/-- an inherited method, or a private one of the superclass -/
theorem amSiteU {C : String} (hM : amMet l G y (ws_ y bytes maxL ret) d mc ms T) (hRm : R = amRm dR mcR msR) (hd : d + 1 ≤ dR) (hm : maxL ≤ 40) (h1 : Cond.methodLink own idx y ∈ lw_all) (h2 : Cond.sameMethod y.cls y.cls y.name y.desc ∈ lw_all) (h3 : Cond.selects C y y ∈ lw_all ∨ Cond.selects C y y ∈ amGW) (h4 : Cond.instanceMethod y ∈ lw_all) (h5 : Cond.initialized y.cls ∈ lw_all) (h6 : Cond.code y bytes maxL ret ∈ lw_all) (hq : ∃ q, amCl[ci]? = some q ∧ q.1 = C)
    (hy : y.cls ≠ "java/lang/invoke/MethodHandle" ∧ y.cls ≠ "java/lang/invoke/VarHandle" ∧ (parseMethodDescriptor y.desc).map (fun d => d.parameters.length) = some n) : amSite G l own nm R (.invokevirtual idx) 3 (n + 1) mc ms (amRecv ci T) := by
  intro cc nL p e s m args below meth c Q pc ls as st h k z K hC hnm hd' hT hn hcat hk hz kk H locs lsv hR hS hL
  obtain ⟨hx, hb, hml, hown, hts, hK, hb0⟩ := hC
  obtain ⟨q, hq, rfl⟩ := hq
  cases as with
  | nil => exact hT.elim
  | cons a t =>
    cases a with
    | ref b =>
      obtain ⟨hs, hT⟩ := hT
      have hsel : (Cond.selects q.1 y y).before args s = true := by
        rcases h3 with h3 | h3
        · exact hts _ h3
        · exact amTb.go (amGW_mv _ h3).1 rfl (hK.2.2.2.2.2.2.2.1 _ h3)
      have hG : GoodIn lw_all (ws_ y bytes maxL ret) := lw_meth h6
      have hrm := amRoom (d := d) (mc := mc) (ms := ms) (maxL := maxL) hRm hd hm
      have cw : va_CU R s args own q.1 y.cls idx y y bytes maxL ret (ws_ y bytes maxL ret) (amRm d mc ms) mc ms n := ⟨⟨rfl, rfl, hrm.1, hrm.2, pay_in hts hG, List.mem_cons_self⟩, hts _ h6, hts _ h5, ⟨hy.1, hy.2.1⟩, fun sig h => by
        have h2 := hy.2.2
        rw [h] at h2
        exact (Option.some.inj h2).symm, hts _ h1, hts _ h2, va_Decl.of (hts _ h4) (hts _ h6), hsel, hts _ h4⟩
      refine amRun (va_runU (As := t.map (amV G)) (rest := st.map (amV G)) ⟨hx, hb, hml, hown, hts⟩ (hM _ h K hT) cw (amPreV hK hR hS hq hs) rfl (by simp only [List.length_map, List.length_cons] at hn ⊢; omega) hL.2.1 ?_ (lv_room (by rw [amCats]; exact hcat)) hd' ⟨hk, hz⟩) hS hL kk
      show ((.ref b :: t).reverse ++ st).map (amV G) = _
      rw [amStk]
      simp [amV]
    | _ => exact hT.elim
/-- super.m(..) -/
theorem amSiteSU {C : String} (hM : amMet l G y (ws_ y bytes maxL ret) d mc ms T) (hRm : R = amRm dR mcR msR) (hd : d + 1 ≤ dR) (hm : maxL ≤ 40) (h1 : Cond.methodLink own idx y ∈ lw_all) (h2 : Cond.sameMethod y.cls y.cls y.name y.desc ∈ lw_all) (h3 : Cond.superclass own y.cls ∈ lw_all) (h4 : Cond.instanceMethod y ∈ lw_all) (h5 : Cond.initialized y.cls ∈ lw_all) (h6 : Cond.code y bytes maxL ret ∈ lw_all) (hq : ∃ q, amCl[ci]? = some q ∧ q.1 = C)
    (hy : y.name ≠ "<init>" ∧ (parseMethodDescriptor y.desc).map (fun d => d.parameters.length) = some n) : amSite G l own nm R (.invokespecial idx) 3 (n + 1) mc ms (amRecv ci T) := by
  intro cc nL p e s m args below meth c Q pc ls as st h k z K hC hnm hd' hT hn hcat hk hz kk H locs lsv hR hS hL
  obtain ⟨hx, hb, hml, hown, hts, hK, hb0⟩ := hC
  obtain ⟨q, hq, rfl⟩ := hq
  cases as with
  | nil => exact hT.elim
  | cons a t =>
    cases a with
    | ref b =>
      obtain ⟨hs, hT⟩ := hT
      have hG : GoodIn lw_all (ws_ y bytes maxL ret) := lw_meth h6
      have hrm := amRoom (d := d) (mc := mc) (ms := ms) (maxL := maxL) hRm hd hm
      have cw : va_CS R s args own idx y bytes maxL ret (ws_ y bytes maxL ret) (amRm d mc ms) mc ms n := ⟨⟨rfl, rfl, hrm.1, hrm.2, pay_in hts hG, List.mem_cons_self⟩, hts _ h1, hts _ h2, hts _ h3, hts _ h4, hts _ h5, hts _ h6, hy.1, fun sig h => by
        have h2 := hy.2
        rw [h] at h2
        exact (Option.some.inj h2).symm⟩
      refine amRun (va_runSU (C := q.1) (As := t.map (amV G)) (rest := st.map (amV G)) (hK.1.1 ci _ hq).2 ⟨hx, hb, hml, hown, hts⟩ (hM _ h K hT) cw (amPreV hK hR hS hq hs) rfl (by simp only [List.length_map, List.length_cons] at hn ⊢; omega) hL.2.1 ?_ (lv_room (by rw [amCats]; exact hcat)) hd' ⟨hk, hz⟩) hS hL kk
      show ((.ref b :: t).reverse ++ st).map (amV G) = _
      rw [amStk]
      simp [amV]
    | _ => exact hT.elim
theorem amStrCell {s : State} {h : amH} {H : Heap} {a : Nat} (hK : amKn G s) (hR : amRep G h H) (hs : h.1 a = (0, 7)) : ∃ cell : Cell, H[amAd G a]? = some cell ∧ cell.vm.isStatics = false ∧ s.vm.findClass "java/lang/String" = some cell.cls := by
  obtain ⟨r, hr, cell, g1, g2, g3, -⟩ := hR.obj hs
  cases hr
  exact ⟨cell, g1, g3.1.1, by rw [g2]; exact (hK.1.1 7 _ rfl).2.1⟩
theorem amSiteInS (hlink : Cond.classLink own idx "java/lang/String" ∈ lw_all) : amSite G l own nm R (.instanceof idx) 3 1 0 0 amTinS := by
  intro cc nL p e s m args below meth c Q pc ls as st h k z K hC hnm hd hT hn hcat hkk hz kk H locs lsv hR hS hL
  obtain ⟨hx, hb, hml, hown, hts, hK, hb0⟩ := hC
  match as, hT with
  | [.ref a], hT => exact va_instE hx hb hown (hts _ hlink) (amStrCell hK hR hT.1) hd (kk _ _ hT.2 H locs lsv hR hS hL)
theorem amSiteCaS (hlink : Cond.classLink own idx "java/lang/String" ∈ lw_all) : amSite G l own nm R (.checkcast idx) 3 1 0 0 amTcaS := by
  intro cc nL p e s m args below meth c Q pc ls as st h k z K hC hnm hd hT hn hcat hkk hz kk H locs lsv hR hS hL
  obtain ⟨hx, hb, hml, hown, hts, hK, hb0⟩ := hC
  match as, hT with
  | [.ref a], hT => exact va_castE hx hb hown (hts _ hlink) (amStrCell hK hR hT.1) hd (kk _ _ hT.2 H locs lsv hR hS hL)
end AMSS
/-- a copy of a row of bytes -/
def amClone (h : amH) (a : Nat) : amH := (va_up h.1 h.2.2.2.2 (h.1 a), va_up h.2.1 h.2.2.2.2 (h.2.1 a), h.2.2.1, h.2.2.2.1, h.2.2.2.2 + 1)
def amTclone : amT := fun as h K => match as with
  | [.ref a] => ∃ n, h.1 a = (2, n) ∧ n ≤ 400 ∧ amN0 ≤ a ∧ K (some (.ref h.2.2.2.2)) (amClone h a)
  | _ => False
theorem amSiteClone {G : amG} {l : Launch} {own nm : String} {R : Room} {idx dR mcR msR : Nat} (hRm : R = amRm dR mcR msR) (hd1 : 1 ≤ dR) (hlink : Cond.methodLink own idx ⟨"[B", "clone", "()Ljava/lang/Object;"⟩ ∈ lw_all) : amSite G l own nm R (.invokevirtual idx) 3 1 1 400 amTclone := by
  intro cc nL p e s m args below meth c Q pc ls as st h k z K hC hnm hd hT hn hcat hk hz kk H locs lsv hR hS hL
  obtain ⟨hx, hb, hml, hown, hts, hK, hb0⟩ := hC
  match as, hT with
  | [.ref a], hT =>
  obtain ⟨n, hs, hn4, ha0, hKK⟩ := hT
  have hc := hR.arr hs (by omega) (by omega)
  have hcls : s.vm.findClass "[B" = some (G.2.1 2) := amArCls hK (kd := 2) (Or.inr (Or.inl rfl))
  obtain ⟨c0, t0', f1, f2, f3⟩ := Cond.castable_spec (va_Nw.use (A := args) rfl (hK.2.2.2.2.2.2.2.1 (.castable "[B" "java/lang/Cloneable") (List.mem_of_getElem? (i := 44) rfl)))
  cases hcls.symm.trans f1
  intro T hT2 X
  obtain ⟨-, kA, hkA, comp, hkind⟩ := State.isArrayOf_alike X.warmed.alike ((amArrT hK (k := 2) (by omega) (by omega)).1 0 (fun _ => .null))
  obtain ⟨-, kS, hkS, compS, hkindS⟩ := ((amArrT hK (k := 2) (by omega) (by omega)).1 0 (fun _ => .null))
  have hsum : ((Value.ref (amAd G a) :: st.map (amV G)).map fun v => v.category).sum = 1 + (st.map fun v => v.category).sum := by
    have := amCats G st
    have e9 : ((Value.ref (amAd G a) :: st.map (amV G)).map fun v => v.category).sum = 1 + ((st.map (amV G)).map fun v => v.category).sum := by simp [Value.category]
    rw [e9, this]
  obtain ⟨vm', X', st1⟩ := X.cloneArray hx hown (hts _ hlink) (hts _ q670) (hts _ q671) (hts _ q672) (hts _ q673) (a := amAd G a) (cell := arrV (G.2.1 2) n (fun j => amV G (amRd (amEt 2 j) h a j))) (by rw [hT2]; exact hc.1.own ha0) (fun k h => by cases h) (fun h => by cases h) hcls f2 f3
    (fun i v hv => by
      have hk' : T.vm.classes[G.2.1 2]? = some kA := hkA
      simp only [arrV, Array.getElem?_ofFn] at hv
      by_cases hi : i < n
      · rw [dif_pos hi] at hv
        cases hv
        have : fits (amKt 2) (amV G (amRd (amEt 2 i) h a i)) = true := hc.2 i hi rfl
        simpa [State.fitsSlot, State.slotType?, hk', hkind, arrV] using this
      · rw [dif_neg hi] at hv
        cases hv)
    (g := F0 m pc lsv (.ref (amAd G a) :: st.map (amV G))) rfl (by rw [hml]; exact hL.2.1) rfl (by rw [hb]; exact hd) (by rw [hRm]; exact hd1) (by
      rw [hRm]
      show 2 * 0 + _ + 14 ≤ 12000 + 64 * dR
      have := amCats G st
      omega) (by omega) (by
      rw [arrV_size]
      omega) (hloader := Vm.clonesLoader_of_array hkS hkindS)
  rw [arrV_size] at X'
  have hp : ((T.setVm vm').pushCell (arrV (G.2.1 2) n (fun j => amV G (amRd (amEt 2 j) h a j)))).heap = H.push (arrV (G.2.1 2) n (fun j => amV G (amRd (amEt 2 j) h a j))) := by rw [← hT2]; rfl
  generalize hH1 : H.push (arrV (G.2.1 2) n (fun j => amV G (amRd (amEt 2 j) h a j))) = H1 at hp
  have z1 : H1.size = H.size + 1 := by rw [← hH1, Array.size_push]
  have e1 : H1[H.size]? = some (arrV (G.2.1 2) n (fun j => amV G (amRd (amEt 2 j) h a j))) := by rw [← hH1, Array.getElem?_push_size]
  have o1 : ∀ q : Nat, q < H.size → H1[q]? = H[q]? := fun q hq => by rw [← hH1, Array.getElem?_push, if_neg (Nat.ne_of_lt hq)]
  have sh : (amClone h a).1 h.2.2.2.2 = (2, n) := by simp [amClone, va_up, hs]
  have hR' : amRep G (amClone h a) H1 := by
    refine hR.push2 rfl rfl (fun i hi => ⟨if_neg hi, rfl, rfl⟩) z1 o1 ⟨fun q => ?_, fun _ _ => ?_⟩
    · rw [sh] at q
      exact absurd (show (2 : Nat) = 0 from q) (by decide)
    · rw [sh]
      refine ⟨?_, fun j hj hm => ?_⟩
      · refine amAV.of ?_
        rw [hR.ad, e1]
        congr 1
        refine arrV_congr (fun j hj => ?_)
        show amV G (.int (h.2.1 a j)) = amV G (.int ((amClone h a).2.1 h.2.2.2.2 j))
        simp [amClone, va_up]
      · have e : (amClone h a).2.1 h.2.2.2.2 j = h.2.1 a j := by simp [amClone, va_up]
        rw [e]
        exact hc.2 j hj hm
  have hS' : va_S (amA G) s.heap H1 locs := ⟨Nat.le_trans hS.1 (by omega), fun x h1 h2 => (o1 x (Nat.lt_of_lt_of_le h1 hS.1)).trans (hS.2.1 x h1 h2), hS.2.2⟩
  obtain ⟨t, a1, b1⟩ := ((kk _ _ hKK).widen (k := k + 1) (z := z + n) (by omega) (by omega)) H1 locs lsv hR' hS' hL _ hp X'
  refine ⟨t, st1 t ?_, b1⟩
  have e9 : ((some (Value.ref h.2.2.2.2)).toList ++ st).map (amV G) = .ref T.heap.size :: st.map (amV G) := by simp [amV, hR.ad, hT2]
  rw [e9] at a1
  exact a1
/-- an overridden method: what the reference names is another one's code -/
theorem amSiteUO {G : amG} {l : Launch} {own nm : String} {R : Room} {idx d mc ms maxL n ci dR mcR msR m0 : Nat} {x y : MethodName} {bytes b0 : ByteArray} {ret r0 : Option FieldType} {T : amT} {C : String} (hM : amMet l G y (ws_ y bytes maxL ret) d mc ms T) (hRm : R = amRm dR mcR msR) (hd : d + 1 ≤ dR) (hm : maxL ≤ 40) (h1 : Cond.methodLink own idx x ∈ lw_all) (h2 : Cond.sameMethod x.cls x.cls x.name x.desc ∈ lw_all) (h3 : Cond.selects C x y ∈ lw_all) (h4 : Cond.instanceMethod y ∈ lw_all) (h5 : Cond.initialized y.cls ∈ lw_all) (h6 : Cond.code y bytes maxL ret ∈ lw_all) (h7 : Cond.instanceMethod x ∈ lw_all) (h8 : Cond.code x b0 m0 r0 ∈ lw_all) (hq : ∃ q, amCl[ci]? = some q ∧ q.1 = C)
    (hy : x.cls ≠ "java/lang/invoke/MethodHandle" ∧ x.cls ≠ "java/lang/invoke/VarHandle" ∧ (parseMethodDescriptor x.desc).map (fun d => d.parameters.length) = some n) : amSite G l own nm R (.invokevirtual idx) 3 (n + 1) mc ms (amRecv ci T) := by
  intro cc nL p e s m args below meth c Q pc ls as st h k z K hC hnm hd' hT hn hcat hk hz kk H locs lsv hR hS hL
  obtain ⟨hx, hb, hml, hown, hts, hK, hb0⟩ := hC
  obtain ⟨q, hq, rfl⟩ := hq
  cases as with
  | nil => exact hT.elim
  | cons a t =>
    cases a with
    | ref b =>
      obtain ⟨hs, hT⟩ := hT
      have hG : GoodIn lw_all (ws_ y bytes maxL ret) := lw_meth h6
      have hrm := amRoom (d := d) (mc := mc) (ms := ms) (maxL := maxL) hRm hd hm
      have cw : va_CU R s args own q.1 x.cls idx x y bytes maxL ret (ws_ y bytes maxL ret) (amRm d mc ms) mc ms n := ⟨⟨rfl, rfl, hrm.1, hrm.2, pay_in hts hG, List.mem_cons_self⟩, hts _ h6, hts _ h5, ⟨hy.1, hy.2.1⟩, fun sig h => by
        have h2 := hy.2.2
        rw [h] at h2
        exact (Option.some.inj h2).symm, hts _ h1, hts _ h2, va_Decl.of (hts _ h7) (hts _ h8), hts _ h3, hts _ h4⟩
      refine amRun (va_runU (As := t.map (amV G)) (rest := st.map (amV G)) ⟨hx, hb, hml, hown, hts⟩ (hM _ h K hT) cw (amPreV hK hR hS hq hs) rfl (by simp only [List.length_map, List.length_cons] at hn ⊢; omega) hL.2.1 ?_ (lv_room (by rw [amCats]; exact hcat)) hd' ⟨hk, hz⟩) hS hL kk
      show ((.ref b :: t).reverse ++ st).map (amV G) = _
      rw [amStk]
      simp [amV]
    | _ => exact hT.elim
