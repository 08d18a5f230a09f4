/-! AM: rows that write, make, call and return -/
set_option maxRecDepth 100000
def amWr (h : amH) (a f : Nat) (v : Value) : amH := match v with
  | .int x => (h.1, va_up h.2.1 a (va_up (h.2.1 a) f x), h.2.2.1, h.2.2.2.1, h.2.2.2.2)
  | .long x => (h.1, h.2.1, va_up h.2.2.1 a (va_up (h.2.2.1 a) f x), h.2.2.2.1, h.2.2.2.2)
  | .ref b => (h.1, h.2.1, h.2.2.1, va_up h.2.2.2.1 a (va_up (h.2.2.2.1 a) f (some b)), h.2.2.2.2)
  | .null => (h.1, h.2.1, h.2.2.1, va_up h.2.2.2.1 a (va_up (h.2.2.2.1 a) f none), h.2.2.2.2)
  | _ => h
def amNew (h : amH) (s : Nat × Nat) : amH := (va_up h.1 h.2.2.2.2 s, va_up h.2.1 h.2.2.2.2 (fun _ => 0), va_up h.2.2.1 h.2.2.2.2 (fun _ => 0), va_up h.2.2.2.1 h.2.2.2.2 (fun _ => none), h.2.2.2.2 + 1)
/-- a value that a slot of a type takes -/
def amFit (ty : FieldType) (v : Value) : Prop := match v with
  | .int x => amMk ty = 0 ∧ narrow ty (.int x) = .int x ∧ fits ty (.int x) = true
  | .long _ => ty = .long
  | .ref _ => amMk ty = 2
  | .null => amMk ty = 2
  | _ => False
theorem amWr_sh (h : amH) (a f : Nat) (v : Value) : (amWr h a f v).1 = h.1 := by cases v <;> rfl
theorem amWr_n (h : amH) (a f : Nat) (v : Value) : (amWr h a f v).2.2.2.2 = h.2.2.2.2 := by cases v <;> rfl
theorem amWr_ne (h : amH) (a f : Nat) (v : Value) {i : Nat} (hi : i ≠ a) : (amWr h a f v).2.1 i = h.2.1 i ∧ (amWr h a f v).2.2.1 i = h.2.2.1 i ∧ (amWr h a f v).2.2.2.1 i = h.2.2.2.1 i := by
  cases v <;> simp [amWr, va_up, hi]
theorem amWr_rd {ty : Nat → FieldType} (h : amH) (a f : Nat) {v : Value} (hv : amFit (ty f) v) (j : Nat) : amRd (ty j) (amWr h a f v) a j = if j = f then v else amRd (ty j) h a j := by
  by_cases hj : j = f
  · subst hj
    rw [if_pos rfl]
    cases v with
    | int x =>
      obtain ⟨h1, -⟩ := hv
      simp [amRd, h1, amWr, va_up]
    | long x =>
      have h1 : ty j = .long := hv
      simp [amRd, h1, amMk, amWr, va_up]
    | ref b =>
      have h1 : amMk (ty j) = 2 := hv
      simp [amRd, h1, amWr, va_up, va_rf]
    | null =>
      have h1 : amMk (ty j) = 2 := hv
      simp [amRd, h1, amWr, va_up, va_rf]
    | float x => exact hv.elim
    | double x => exact hv.elim
    | retAddr x => exact hv.elim
  · rw [if_neg hj]
    unfold amRd
    cases v <;> simp [amWr, va_up, hj]
theorem amRep.upd {G : amG} {h h' : amH} {H H' : Heap} {a : Nat} (hR : amRep G h H) (ha : amN0 ≤ a) (hz : H'.size = H.size) (ho : ∀ q, q ≠ amAd G a → H'[q]? = H[q]?) (h1 : h'.1 = h.1) (hn : h'.2.2.2.2 = h.2.2.2.2)
    (hne : ∀ i, i ≠ a → h'.2.1 i = h.2.1 i ∧ h'.2.2.1 i = h.2.2.1 i ∧ h'.2.2.2.1 i = h.2.2.2.1 i) (hc : amCell G h' a H') : amRep G h' H' := by
  refine ⟨fun i => ?_, by rw [hz, hn]; exact hR.2.1, by rw [hn]; exact hR.2.2.1, fun i hi => by rw [h1]; exact hR.2.2.2.1 i (by rw [← hn]; exact hi), hR.2.2.2.2.1, hR.2.2.2.2.2.mv2 (fun i _ => by rw [h1]) (fun i hi => have q := hne i (by omega); ⟨q.1, q.2.2⟩)⟩
  by_cases hi : i = a
  · subst hi; exact hc
  · obtain ⟨e1, e2, e3⟩ := hne i hi
    exact (hR.1 i).kept (by rw [h1]) (ho _ (amAd_ne hR ha hi)) e1 e2 e3
theorem amRep.lt {G : amG} {h : amH} {H : Heap} (hR : amRep G h H) {i : Nat} (h0 : (h.1 i).1 < 90) : amAd G i < H.size := by
  by_cases hz : (h.1 i).1 = 0
  · obtain ⟨r, h1, cell, h2, -⟩ := (hR.1 i).1 hz
    exact (Array.getElem?_eq_some_iff.mp h2).1
  · obtain ⟨⟨ce, h2, -⟩, -⟩ := (hR.1 i).2 (by omega) h0
    exact (Array.getElem?_eq_some_iff.mp h2).1
theorem amRep.ad {G : amG} {h : amH} {H : Heap} (hR : amRep G h H) : amAd G h.2.2.2.2 = H.size := by
  have h2 := hR.2.2.1
  rw [hR.2.1]
  unfold amAd
  rw [if_neg (by omega)]
theorem amRep.push {G : amG} {h : amH} {H H' : Heap} {sh : Nat × Nat} (hR : amRep G h H) (hz : H'.size = H.size + 1) (ho : ∀ q, q < H.size → H'[q]? = H[q]?) (hc : amCell G (amNew h sh) h.2.2.2.2 H') : amRep G (amNew h sh) H' := by
  have hn : (amNew h sh).2.2.2.2 = h.2.2.2.2 + 1 := rfl
  have h0 := hR.2.2.1
  refine ⟨fun i => ?_, by rw [hz, hR.2.1, hn]; omega, by rw [hn]; omega, fun i hi => ?_, hR.2.2.2.2.1, hR.2.2.2.2.2.mv2 (fun i hi => if_neg (by omega)) (fun i hi => ⟨if_neg (by omega), if_neg (by omega)⟩)⟩
  · by_cases hi : i = h.2.2.2.2
    · subst hi; exact hc
    · have e0 : (amNew h sh).1 i = h.1 i := by simp [amNew, va_up, hi]
      have e1 : (amNew h sh).2.1 i = h.2.1 i := by simp [amNew, va_up, hi]
      have e2 : (amNew h sh).2.2.1 i = h.2.2.1 i := by simp [amNew, va_up, hi]
      have e3 : (amNew h sh).2.2.2.1 i = h.2.2.2.1 i := by simp [amNew, va_up, hi]
      by_cases hk : (h.1 i).1 < 90
      · exact (hR.1 i).kept e0 (ho _ (hR.lt hk)) e1 e2 e3
      · exact ⟨fun q => by rw [e0] at q; omega, fun _ q2 => by rw [e0] at q2; omega⟩
  · rw [hn] at hi
    have : (amNew h sh).1 i = h.1 i := by simp [amNew, va_up, show i ≠ h.2.2.2.2 by omega]
    rw [this]
    exact hR.2.2.2.1 i (by omega)
theorem amNar {ty : FieldType} (h : ty = .int ∨ ty = .byte ∨ ty = .char ∨ ty = .short) (x : Int32) : narrow ty (.int x) = .int (vp_nar ty x) ∧ fits ty (.int (vp_nar ty x)) = true := by
  rcases h with rfl | rfl | rfl | rfl
  · exact ⟨rfl, rfl⟩
  · exact ⟨rfl, by rw [vp_nar_byte]; exact pk_fb x⟩
  · refine ⟨rfl, ?_⟩
    have h1 := pk_fc x
    have h2 : vp_nar .char x = (x.toUInt32 % 65536).toInt32 := by first | rfl | (simp [vp_nar, narrow])
    rw [h2]
    exact h1
  · exact ⟨rfl, by rw [vp_nar_short]; exact pk_fs x⟩
section AMS
variable {G : amG} {own : String} {cc : ByteArray} {nL : Nat} {p : Program} {l : Launch} {e : Env} {R : Room} {s : State} {m : MethodId} {args : Array Value} {below : List Frame} {meth : Method} {c : Code} {Q : State → Prop}
variable {pc : Nat} {ls st : List Value} {h : amH} {k z : Nat}
def amPS (own : String) (ini : Prop) (ci f : Nat) : Prop := ∀ q : vw_C, amCl[ci]? = some q → (q.2.1 f).2.2.2 = false ∨ (ini ∧ (q.2.1 f).1 = own)
theorem amFit_nf {ty : FieldType} {v : Value} (hv : amFit ty v) (G : amG) : narrow ty (amV G v) = amV G v ∧ fits ty (amV G v) = true := by
  cases v with
  | int x => exact ⟨hv.2.1, hv.2.2⟩
  | long x =>
    have h1 : ty = .long := hv
    subst h1
    exact ⟨rfl, rfl⟩
  | ref b =>
    have h1 : amMk ty = 2 := hv
    cases ty <;> first | exact ⟨rfl, rfl⟩ | (exfalso; revert h1; decide)
  | null =>
    have h1 : amMk ty = 2 := hv
    cases ty <;> first | exact ⟨rfl, rfl⟩ | (exfalso; revert h1; decide)
  | float x => exact hv.elim
  | double x => exact hv.elim
  | retAddr x => exact hv.elim
theorem am_putfield {idx ci f a : Nat} {v : Value} (hC : amC G own cc nL p s m args c) (hd : decode cc pc = .ok (.putfield idx, 3)) (hF : amFS own idx ci f) (hP : amPS own (meth.name = "<init>") ci f) (hs : h.1 a = (0, ci)) (ha : amN0 ≤ a) (hv : amFit (amTy ci f) v) (hk : amF G p l e R s m args below meth c nL Q (pc + 3) ls st (amWr h a f v) k z) : amF G p l e R s m args below meth c nL Q pc ls (v :: .ref a :: st) h k z := by
  intro H locs lsv hR hS hL
  obtain ⟨hx, hb, hml, hown, hts, hK, hb0⟩ := hC
  obtain ⟨q, hq, hf, hl⟩ := hF
  have hap := va_apart (own := own) hts (amIn hq) (amTy ci) (amTyOk hq) (amNm hq) hK.1 hq
  obtain ⟨r, hr, cell, q1, q2, q3, q4⟩ := hR.obj hs
  have : r = q := Option.some.inj (hr.symm.trans hq)
  subst this
  obtain ⟨hSl, hfc, kC, hkC, hkind⟩ := hK.1.1 ci _ hq
  obtain ⟨cf, kf, fi, fd, hi, hsl⟩ := hSl f hf
  have hst := (u_facts hfc hkC (u_lays hts (amIn hq) hf) hi).1
  obtain ⟨hn, hfit⟩ := amFit_nf hv G
  have fin : ∀ H1 : Heap, H1[amAd G a]? = some (cell.setSlot (G.1.2 ci f) (amV G v)) → H1.size = H.size → (∀ y, y ≠ amAd G a → H1[y]? = H[y]?) → amRep G (amWr h a f v) H1 := by
    intro H1 e1 e2 e3
    refine hR.upd ha e2 e3 (amWr_sh _ _ _ _) (amWr_n _ _ _ _) (fun i hi => amWr_ne _ _ _ _ hi) ⟨fun _ => ?_, fun y1 _ => ?_⟩
    · rw [amWr_sh, hs]
      refine ⟨r, hr, amOB.to (V := updV (fun j => amV G (amRd (amTy ci j) h a j)) f (amV G v)) ⟨_, e1, q2, q3, t_set q4 hap hf _⟩ (fun j _ => ?_)⟩
      show updV _ f (amV G v) j = amV G (amRd (amTy ci j) (amWr h a f v) a j)
      rw [amWr_rd (ty := amTy ci) h a f hv j]
      unfold updV
      by_cases hj : j = f
      · rw [if_pos hj, if_pos hj]
      · rw [if_neg hj, if_neg hj]
    · rw [amWr_sh, hs] at y1
      exact absurd y1 (by simp)
  have hlay := hts _ (amIn hq _ (u_in_lay hf))
  unfold u_lay at hlay
  rcases hP r hq with hfin | ⟨hini, hdecl⟩
  · rw [if_neg (by rw [hfin]; decide)] at hlay
    have h6 := u_store hfc hkC hkind hlay hi (amTyOk hq f hf) hn hfit
    rcases hl with hl | ⟨host, hl⟩
    · refine W.putK hx hb (f := fd) ⟨hown, hts _ hl, ⟨_, _, _, hi⟩, hst⟩ (by rw [q2]; exact h6) q1 (q3.2 ha) (by rw [hsl]; exact k2_hasslot (q4 f hf)) rfl rfl hd fun H1 e1 e2 e3 => ?_
      rw [hsl] at e1 ⊢
      exact hk H1 _ lsv (fin H1 e1 e2 e3) (hS.put e2 e3 (amAd_own ha)) hL
    · refine va_WputK hx hb (f := fd) hown (va_Nw.use rfl (hK.2.1 _ hl)) hi hst (by rw [q2]; exact h6) q1 (q3.2 ha) (by rw [hsl]; exact k2_hasslot (q4 f hf)) rfl rfl hd fun H1 e1 e2 e3 => ?_
      rw [hsl] at e1 ⊢
      exact hk H1 _ lsv (fin H1 e1 e2 e3) (hS.put e2 e3 (amAd_own ha)) hL
  · by_cases hfin : (r.2.1 f).2.2.2 = true
    · rw [if_pos hfin] at hlay
      have hcf : m.cls = cf := by
        obtain ⟨_, _, c', _, _, _, -, -, hf', -, -, -, hown2, -⟩ := Cond.laysFinal_spec hlay
        have e1 : c' = cf := by have := hi.symm.trans hf'; simp at this; exact this.1.symm
        rw [hdecl] at hown2
        rw [← e1]; exact Option.some.inj (hown.symm.trans hown2)
      have h6 := u_fits hfc hkC hkind (Or.inr hlay) hi (amTyOk hq f hf) hn hfit
      rcases hl with hl | ⟨host, hl⟩
      · refine W.putFinK hx hb hown (hts _ hl) hi hst hcf hini (by rw [q2]; exact h6) q1 (q3.2 ha) (by rw [hsl]; exact k2_hasslot (q4 f hf)) rfl rfl hd fun H1 e1 e2 e3 => ?_
        rw [hsl] at e1 ⊢
        exact hk H1 _ lsv (fin H1 e1 e2 e3) (hS.put e2 e3 (amAd_own ha)) hL
      · exfalso
        have hall : ∀ x ∈ amNF, x.1 ≠ x.2.2.1 := by decide +kernel
        exact hall _ hl (by rw [hdecl])
    · have hfin : (r.2.1 f).2.2.2 = false := by simpa using hfin
      rw [if_neg (by rw [hfin]; decide)] at hlay
      have h6 := u_store hfc hkC hkind hlay hi (amTyOk hq f hf) hn hfit
      rcases hl with hl | ⟨host, hl⟩
      · refine W.putK hx hb (f := fd) ⟨hown, hts _ hl, ⟨_, _, _, hi⟩, hst⟩ (by rw [q2]; exact h6) q1 (q3.2 ha) (by rw [hsl]; exact k2_hasslot (q4 f hf)) rfl rfl hd fun H1 e1 e2 e3 => ?_
        rw [hsl] at e1 ⊢
        exact hk H1 _ lsv (fin H1 e1 e2 e3) (hS.put e2 e3 (amAd_own ha)) hL
      · refine va_WputK hx hb (f := fd) hown (va_Nw.use rfl (hK.2.1 _ hl)) hi hst (by rw [q2]; exact h6) q1 (q3.2 ha) (by rw [hsl]; exact k2_hasslot (q4 f hf)) rfl rfl hd fun H1 e1 e2 e3 => ?_
        rw [hsl] at e1 ⊢
        exact hk H1 _ lsv (fin H1 e1 e2 e3) (hS.put e2 e3 (amAd_own ha)) hL
/-- storing an int in an array -/
theorem amRep.ast {a kd n : Nat} {i : Int32} {x : Int32} {H H1 : Heap} (hR : amRep G h H) (hs : h.1 a = (kd, n)) (h0 : 1 ≤ kd) (h4 : kd ≤ 4) (ha : amN0 ≤ a) (hin : vp_in i n)
    (e1 : H1[amAd G a]? = some ((arrV (G.2.1 kd) n (fun j => amV G (amRd (amEt kd j) h a j))).setSlot i.toNatClampNeg (.int (vp_nar (amKt kd) x)))) (e2 : H1.size = H.size) (e3 : ∀ y, y ≠ amAd G a → H1[y]? = H[y]?) : amRep G (amWr h a i.toNatClampNeg (.int (vp_nar (amKt kd) x))) H1 := by
  have hty : (amKt kd = .int ∨ amKt kd = .byte ∨ amKt kd = .char ∨ amKt kd = .short) := by
    match kd, h0, h4 with
    | 1, _, _ => exact Or.inl rfl
    | 2, _, _ => exact Or.inr (Or.inl rfl)
    | 3, _, _ => exact Or.inr (Or.inr (Or.inl rfl))
    | 4, _, _ => exact Or.inr (Or.inr (Or.inr rfl))
    | k + 5, _, h => omega
  have het : ∀ j, amEt kd j = amKt kd := fun j => by unfold amEt; rw [if_pos (by omega)]
  have hmk : amMk (amKt kd) = 0 := by rcases hty with e | e | e | e <;> rw [e] <;> rfl
  obtain ⟨n1, n2⟩ := amNar hty x
  have hfit : amFit (amKt kd) (.int (vp_nar (amKt kd) x)) := ⟨hmk, by
    obtain ⟨m1, m2⟩ := amNar hty (vp_nar (amKt kd) x)
    rcases hty with e | e | e | e
    · rw [e]; rfl
    · rw [e, vp_nar_byte]; exact pk_nb x
    · rw [e]
      have h2 : vp_nar .char x = (x.toUInt32 % 65536).toInt32 := by first | rfl | (simp [vp_nar, narrow])
      rw [h2]; exact pk_nc x
    · rw [e, vp_nar_short]; exact pk_ns x, n2⟩
  refine hR.upd ha e2 e3 (amWr_sh _ _ _ _) (amWr_n _ _ _ _) (fun i hi => amWr_ne _ _ _ _ hi) ⟨fun y => ?_, fun _ _ => ?_⟩
  · rw [amWr_sh, hs] at y
    exact absurd y (by simp; omega)
  · rw [amWr_sh, hs]
    have hc := hR.arr hs h0 (by omega)
    refine ⟨?_, fun j hj hm => ?_⟩
    · refine amAV.of ?_
      show H1[amAd G a]? = _
      rw [e1, arrV_store]
      congr 2
      funext j
      have := amWr_rd (ty := fun _ => amKt kd) h a i.toNatClampNeg hfit j
      simp only [het]
      rw [this]
      unfold updV
      by_cases hj : j = i.toNatClampNeg
      · rw [if_pos hj, if_pos hj]; rfl
      · rw [if_neg hj, if_neg hj]
    · rw [het]
      show fits (amKt kd) (.int (va_up h.2.1 a (va_up (h.2.1 a) i.toNatClampNeg (vp_nar (amKt kd) x)) a j)) = true
      by_cases hj2 : j = i.toNatClampNeg
      · simp only [va_up, hj2, if_pos]
        exact n2
      · simp only [va_up, if_pos, if_neg hj2]
        have := hc.2 j hj hm
        rw [het] at this
        exact this
theorem am_iastore {a n : Nat} {i x : Int32} (hC : amC G own cc nL p s m args c) (hd : decode cc pc = .ok (.iastore, 1)) (hs : h.1 a = (1, n)) (hin : vp_in i n) (ha : amN0 ≤ a) (hk : amF G p l e R s m args below meth c nL Q (pc + 1) ls st (amWr h a i.toNatClampNeg (.int x)) k z) : amF G p l e R s m args below meth c nL Q pc ls (.int x :: .int i :: .ref a :: st) h k z := by
  intro H locs lsv hR hS hL
  obtain ⟨hx, hb, hml, hown, hts, hK, hb0⟩ := hC
  have hc := hR.arr hs (by omega) (by omega)
  refine W.iast hx hb (hc.1.own ha) ((amArrT hK (k := 1) (by omega) (by omega)).1 _ _) (fun q => by cases q) (by rw [arrV_size]; exact hin) rfl rfl hd fun H1 e1 e2 e3 => ?_
  exact hk H1 _ lsv (hR.ast (x := x) hs (by omega) (by omega) ha hin e1 e2 e3) (hS.put e2 e3 (amAd_own ha)) hL
theorem am_bastore {a n : Nat} {i x : Int32} (hC : amC G own cc nL p s m args c) (hd : decode cc pc = .ok (.bastore, 1)) (hs : h.1 a = (2, n)) (hin : vp_in i n) (ha : amN0 ≤ a) (hk : amF G p l e R s m args below meth c nL Q (pc + 1) ls st (amWr h a i.toNatClampNeg (.int (vp_nar .byte x))) k z) : amF G p l e R s m args below meth c nL Q pc ls (.int x :: .int i :: .ref a :: st) h k z := by
  intro H locs lsv hR hS hL
  obtain ⟨hx, hb, hml, hown, hts, hK, hb0⟩ := hC
  have hc := hR.arr hs (by omega) (by omega)
  refine W.bast hx hb (hc.1.own ha) ((amArrT hK (k := 2) (by omega) (by omega)).1 _ _) (fun q => by cases q) (by rw [arrV_size]; exact hin) rfl rfl hd fun H1 e1 e2 e3 => ?_
  exact hk H1 _ lsv (hR.ast (kd := 2) (x := x) hs (by omega) (by omega) ha hin e1 e2 e3) (hS.put e2 e3 (amAd_own ha)) hL
theorem am_castore {a n : Nat} {i x : Int32} (hC : amC G own cc nL p s m args c) (hd : decode cc pc = .ok (.castore, 1)) (hs : h.1 a = (3, n)) (hin : vp_in i n) (ha : amN0 ≤ a) (hk : amF G p l e R s m args below meth c nL Q (pc + 1) ls st (amWr h a i.toNatClampNeg (.int (vp_nar .char x))) k z) : amF G p l e R s m args below meth c nL Q pc ls (.int x :: .int i :: .ref a :: st) h k z := by
  intro H locs lsv hR hS hL
  obtain ⟨hx, hb, hml, hown, hts, hK, hb0⟩ := hC
  have hc := hR.arr hs (by omega) (by omega)
  refine W.cast hx hb (hc.1.own ha) ((amArrT hK (k := 3) (by omega) (by omega)).1 _ _) (fun q => by cases q) (by rw [arrV_size]; exact hin) rfl rfl hd fun H1 e1 e2 e3 => ?_
  exact hk H1 _ lsv (hR.ast (kd := 3) (x := x) hs (by omega) (by omega) ha hin e1 e2 e3) (hS.put e2 e3 (amAd_own ha)) hL
theorem am_sastore {a n : Nat} {i x : Int32} (hC : amC G own cc nL p s m args c) (hd : decode cc pc = .ok (.sastore, 1)) (hs : h.1 a = (4, n)) (hin : vp_in i n) (ha : amN0 ≤ a) (hk : amF G p l e R s m args below meth c nL Q (pc + 1) ls st (amWr h a i.toNatClampNeg (.int (vp_nar .short x))) k z) : amF G p l e R s m args below meth c nL Q pc ls (.int x :: .int i :: .ref a :: st) h k z := by
  intro H locs lsv hR hS hL
  obtain ⟨hx, hb, hml, hown, hts, hK, hb0⟩ := hC
  have hc := hR.arr hs (by omega) (by omega)
  refine W.sast hx hb (hc.1.own ha) ((amArrT hK (k := 4) (by omega) (by omega)).1 _ _) (fun q => by cases q) (by rw [arrV_size]; exact hin) rfl rfl hd fun H1 e1 e2 e3 => ?_
  exact hk H1 _ lsv (hR.ast (kd := 4) (x := x) hs (by omega) (by omega) ha hin e1 e2 e3) (hS.put e2 e3 (amAd_own ha)) hL
/-- storing a long or a reference in an array -/
theorem amRep.ast2 {a kd n j0 : Nat} {v : Value} {H H1 : Heap} (hR : amRep G h H) (hs : h.1 a = (kd, n)) (h0 : 5 ≤ kd) (h8 : kd ≤ 8) (ha : amN0 ≤ a) (hfit : amFit (amKt kd) v)
    (e1 : H1[amAd G a]? = some ((arrV (G.2.1 kd) n (fun j => amV G (amRd (amEt kd j) h a j))).setSlot j0 (amV G v))) (e2 : H1.size = H.size) (e3 : ∀ y, y ≠ amAd G a → H1[y]? = H[y]?) : amRep G (amWr h a j0 v) H1 := by
  have het : ∀ j, amEt kd j = amKt kd := fun j => by unfold amEt; rw [if_pos (by omega)]
  have hmk : amMk (amKt kd) ≠ 0 := by
    match kd, h0, h8 with
    | 5, _, _ => decide
    | 6, _, _ => decide
    | 7, _, _ => decide
    | 8, _, _ => decide
    | k + 9, _, h => omega
  refine hR.upd ha e2 e3 (amWr_sh _ _ _ _) (amWr_n _ _ _ _) (fun i hi => amWr_ne _ _ _ _ hi) ⟨fun y => ?_, fun _ _ => ?_⟩
  · rw [amWr_sh, hs] at y
    exact absurd y (by simp; omega)
  · rw [amWr_sh, hs]
    refine ⟨?_, fun j hj hm => ?_⟩
    · refine amAV.of ?_
      show H1[amAd G a]? = _
      rw [e1, arrV_store]
      congr 2
      funext j
      have := amWr_rd (ty := fun _ => amKt kd) h a j0 hfit j
      simp only [het]
      rw [this]
      unfold updV
      by_cases hj : j = j0
      · rw [if_pos hj, if_pos hj]
      · rw [if_neg hj, if_neg hj]
    · rw [het] at hm
      exact absurd hm hmk
theorem am_lastore {a n : Nat} {i : Int32} {x : Int64} (hC : amC G own cc nL p s m args c) (hd : decode cc pc = .ok (.lastore, 1)) (hs : h.1 a = (5, n)) (hin : vp_in i n) (ha : amN0 ≤ a) (hk : amF G p l e R s m args below meth c nL Q (pc + 1) ls st (amWr h a i.toNatClampNeg (.long x)) k z) : amF G p l e R s m args below meth c nL Q pc ls (.long x :: .int i :: .ref a :: st) h k z := by
  intro H locs lsv hR hS hL
  obtain ⟨hx, hb, hml, hown, hts, hK, hb0⟩ := hC
  have hc := hR.arr hs (by omega) (by omega)
  refine W.last hx hb (hc.1.own ha) ((amArrT hK (k := 5) (by omega) (by omega)).1 _ _) (fun q => by cases q) (by rw [arrV_size]; exact hin) rfl rfl hd fun H1 e1 e2 e3 => ?_
  exact hk H1 _ lsv (hR.ast2 (v := .long x) hs (by omega) (by omega) ha rfl e1 e2 e3) (hS.put e2 e3 (amAd_own ha)) hL
/-- a house in an array of houses, a sheet in one of sheets -/
theorem am_aastore {a b kd ci n : Nat} {i : Int32} (hC : amC G own cc nL p s m args c) (hd : decode cc pc = .ok (.aastore, 1)) (hkc : (kd = 7 ∧ ci = 1) ∨ (kd = 8 ∧ ci = 5)) (hs : h.1 a = (kd, n)) (hb1 : h.1 b = (0, ci)) (hin : vp_in i n) (ha : amN0 ≤ a) (hk : amF G p l e R s m args below meth c nL Q (pc + 1) ls st (amWr h a i.toNatClampNeg (.ref b)) k z) : amF G p l e R s m args below meth c nL Q pc ls (.ref b :: .int i :: .ref a :: st) h k z := by
  intro H locs lsv hR hS hL
  obtain ⟨hx, hb, hml, hown, hts, hK, hb0⟩ := hC
  have hkd : 5 ≤ kd ∧ kd ≤ 8 := by omega
  have hc := hR.arr hs (by omega) (by omega)
  obtain ⟨r, hr, cellV, g1, g2, g3, -⟩ := hR.obj hb1
  have hname : amKt kd = .object r.1 := by
    rcases hkc with ⟨rfl, rfl⟩ | ⟨rfl, rfl⟩ <;> (cases hr; rfl)
  have hcls := (hK.1.1 ci r hr).2
  have hRA := (amArrT hK (k := kd) (by omega) (by omega)).2
  rw [hname] at hRA
  obtain ⟨kA, comp, k1, k2, k3, -⟩ := hRA
  have hcomp : comp = G.1.1 ci := Option.some.inj (k3.symm.trans hcls.1)
  subst hcomp
  obtain ⟨kC, hkC, -⟩ := hcls.2
  have hlt := am_in hin
  have h0 : ¬ i < 0 := fun q => hin (Or.inl q)
  refine W.aast hx hb (hc.1.own ha) (fun q h => by cases h) (fun h => by cases h) k1 k2 rfl hkC ⟨h0, by rw [arrV_size]; exact hlt⟩ g1 (fun q h => by have g4 := g3.1.1; rw [h] at g4; cases g4) (by rw [g2]; exact hkC) (by rw [g2]; exact va_assign hcls) rfl rfl hd fun H1 e1 e2 e3 => ?_
  exact hk H1 _ lsv (hR.ast2 (v := .ref b) hs (by omega) (by omega) ha (by rw [hname]; rfl) e1 e2 e3) (hS.put e2 e3 (amAd_own ha)) hL
end AMS
