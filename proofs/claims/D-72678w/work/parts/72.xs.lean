/-! AM: what the machine throws by itself -/
set_option maxRecDepth 100000
/-- so many cells more of which nothing is said -/
def amMore (h : amH) (d : Nat) : amH := (fun i => if h.2.2.2.2 ≤ i ∧ i < h.2.2.2.2 + d then (98, 0) else h.1 i, h.2.1, h.2.2.1, h.2.2.2.1, h.2.2.2.2 + d)
theorem amRep.more {G : amG} {h : amH} {H H1 : Heap} (hR : amRep G h H) (hz : H.size ≤ H1.size) (ho : ∀ q : Nat, q < H.size → H1[q]? = H[q]?) : amRep G (amMore h (H1.size - H.size)) H1 := by
  have h0 := hR.2.2.1
  have h1 := hR.2.1
  refine ⟨fun i => ?_, ?_, ?_, fun i hi => ?_, hR.2.2.2.2.1, hR.2.2.2.2.2.mv2 (fun i hi => if_neg (by omega)) (fun _ _ => ⟨rfl, rfl⟩)⟩
  · by_cases hn : h.2.2.2.2 ≤ i ∧ i < h.2.2.2.2 + (H1.size - H.size)
    · have e : (amMore h (H1.size - H.size)).1 i = (98, 0) := if_pos hn
      exact ⟨fun q => absurd (e ▸ q : (98, 0).1 = 0) (by decide), fun _ q2 => absurd (e ▸ q2 : (98, 0).1 < 90) (by decide)⟩
    · have e : (amMore h (H1.size - H.size)).1 i = h.1 i := if_neg hn
      by_cases hk : (h.1 i).1 < 90
      · exact (hR.1 i).kept e (ho _ (hR.lt hk)) rfl rfl rfl
      · exact ⟨fun q => by rw [e] at q; omega, fun _ q2 => by rw [e] at q2; omega⟩
  · show H1.size = G.2.2.1 + (h.2.2.2.2 + (H1.size - H.size) - amN0)
    omega
  · show amN0 ≤ h.2.2.2.2 + (H1.size - H.size)
    omega
  · have hi : h.2.2.2.2 + (H1.size - H.size) ≤ i := hi
    have e : (amMore h (H1.size - H.size)).1 i = h.1 i := if_neg (by omega)
    rw [e]
    exact hR.2.2.2.1 i (by omega)
/-- a made cell's id -/
theorem amId {G : amG} {q9 : Nat} (h : G.2.2.1 ≤ q9) : amAd G (amN0 + (q9 - G.2.2.1)) = q9 := by
  unfold amAd
  rw [if_neg (by omega)]
  omega
/-- the words of a throw are had -/
abbrev amThrOk (L : List Cond) : Prop := (L.all (fun w => (decide (w ∈ lw_all) || decide (w ∈ amGW)) && vx_ot w)) = true
theorem amThrOk.use {G : amG} {own : String} {cc : ByteArray} {nL : Nat} {p : Program} {s : State} {m : MethodId} {args : Array Value} {c : Code} {L : List Cond} (h : amThrOk L) (hC : amC G own cc nL p s m args c) : (∀ w ∈ L, w.before args s = true) ∧ ∀ w ∈ L, vx_ot w = true := by
  have h1 : ∀ w ∈ L, ((decide (w ∈ lw_all) || decide (w ∈ amGW)) && vx_ot w) = true := List.all_eq_true.mp h
  refine ⟨fun w hw => ?_, fun w hw => ?_⟩
  · have := h1 w hw
    simp only [Bool.and_eq_true, Bool.or_eq_true, decide_eq_true_eq] at this
    rcases this.1 with h2 | h2
    · exact hC.2.2.2.2.1 w h2
    · exact amTb.go (amGW_mv w h2).1 rfl (hC.2.2.2.2.2.1.2.2.2.2.2.2.2.1 w h2)
  · have := h1 w hw
    simp only [Bool.and_eq_true] at this
    exact this.2
/-- by what classes an exception goes up -/
def amUp (ex : Nat) : List String := match ex with
  | 3 => ["java/lang/IndexOutOfBoundsException", "java/lang/RuntimeException", "java/lang/Exception"]
  | _ => ["java/lang/RuntimeException", "java/lang/Exception"]
theorem amThr1 : amThrOk (vx_atN 8) := by decide +kernel
theorem amThr2 : amThrOk (vx_atM (amEx 2) (amUp 2)) := by decide +kernel
theorem amThr3 : amThrOk (vx_atM (amEx 3) (amUp 3)) := by decide +kernel
theorem amThr4 : amThrOk (vx_atM (amEx 4) (amUp 4)) := by decide +kernel
theorem amThr5 : amThrOk (vx_atM (amEx 5) (amUp 5)) := by decide +kernel
theorem amFit5 {ex : Nat} (h : ex = 2 ∨ ex = 3 ∨ ex = 4 ∨ ex = 5) : Bundle.fit (amEx ex) = true ∧ (∀ n ∈ amUp ex, Bundle.fit n = true) ∧ (amEx ex == "java/lang/StackOverflowError") = false ∧ (amEx ex == "java/lang/OutOfMemoryError") = false ∧ amThrOk (vx_atM (amEx ex) (amUp ex)) ∧ (amUp ex).length ≤ 3 := by
  rcases h with rfl | rfl | rfl | rfl
  · exact ⟨by decide +kernel, by decide +kernel, by decide +kernel, by decide +kernel, amThr2, by decide⟩
  · exact ⟨by decide +kernel, by decide +kernel, by decide +kernel, by decide +kernel, amThr3, by decide⟩
  · exact ⟨by decide +kernel, by decide +kernel, by decide +kernel, by decide +kernel, amThr4, by decide⟩
  · exact ⟨by decide +kernel, by decide +kernel, by decide +kernel, by decide +kernel, amThr5, by decide⟩
section AMXT
variable {G : amG} {own : String} {cc : ByteArray} {nL : Nat} {p : Program} {l : Launch} {e : Env} {R : Room} {s : State} {m : MethodId} {args : Array Value} {below : List Frame} {meth : Method} {c : Code} {Q : State → Prop}
variable {pc : Nat} {ls st : List Value} {h : amH} {k z : Nat} {dR mcR msR : Nat}
theorem amZq (hC : amC G own cc nL p s m args c) {C n d : String} {i : Nat} (hi : (C, n, d, i) ∈ amSx) : vx_Zq C n d (amA G) s s.heap := (hC.2.2.2.2.2.1.2.2.2.2.2.2.2.2.2.1 _ hi).zq
/-- an exception with a text -/
theorem amVm {ex nb : Nat} {text : String} {H : Heap} {locs : List Loc} {lsv : Array Slot} {rest : List Value} (hex : ex = 2 ∨ ex = 3 ∨ ex = 4 ∨ ex = 5) (hC : amC G own cc nL p s m args c) (hl : l.stackTraces = false) (hlk : meth.locks = false) (hRm : R = amRm dR mcR msR) (hd : 8 ≤ dR) (htext : (text == notModelled) = false) (hnb : (stringBytes (stringToUtf16 text)).size ≤ nb) (hnb1 : nb ≤ 1000)
    (hk : k + 3 ≤ R.cells) (hz : z + (nb + 10) ≤ R.slots) (hR : amRep G h H) (hS : va_S (amA G) s.heap H locs) (hL : amL G nL lsv ls) (hcat : (rest.map fun v => v.category).sum ≤ 1700) (kx : ∀ q d : Nat, amFX G p l e R s m args below meth c nL Q pc ls ex q (amMore h d) (k + 3) (z + (nb + 10))) :
    vx_Note p l e R s m args below meth c H locs k z Q (F0 m pc lsv rest) (amEx ex) text := by
  obtain ⟨f1, f2, f3, f4, f5, f6⟩ := amFit5 hex
  obtain ⟨w1, w2⟩ := f5.use hC
  have hb0 := amBase hR
  refine vy_vm hC.1 hl f1 f2 f3 f4 w1 w2 (amZq hC (i := 20) (List.mem_of_getElem? (i := 0) rfl)) (amZq hC (i := 21) (List.mem_of_getElem? (i := 1) rfl)) hS (by rw [hC.2.2.1]; exact hL.2.1) htext hnb hnb1 (by rw [hRm]; show (amUp ex).length + 4 < dR; omega) (by rw [hRm]; show _ ≤ 12000 + 64 * dR; omega) (by omega) hk hz hlk ?_
  intro H1 q9 ce z1 z2 z3 z4 z5 z6 z7
  have := kx (amN0 + (q9 - G.2.2.1)) (H1.size - H.size) H1 locs lsv rest ce (hR.more z1 z2) z3 hL (by rw [amId (by omega)]; exact z4) z5 z7
  rwa [amId (by omega)] at this
/-- NullPointerException -/
theorem amNpe {H : Heap} {locs : List Loc} {lsv : Array Slot} {rest : List Value} (hC : amC G own cc nL p s m args c) (hl : l.stackTraces = false) (hlk : meth.locks = false) (hRm : R = amRm dR mcR msR) (hd : 8 ≤ dR)
    (hk : k + 1 ≤ R.cells) (hz : z + 8 ≤ R.slots) (hR : amRep G h H) (hS : va_S (amA G) s.heap H locs) (hL : amL G nL lsv ls) (hcat : (rest.map fun v => v.category).sum ≤ 1700) (kx : ∀ q d : Nat, amFX G p l e R s m args below meth c nL Q pc ls 1 q (amMore h d) (k + 1) (z + 8)) :
    vx_NoteN p l e R s m args below meth c H locs k z Q (F0 m pc lsv rest) := by
  obtain ⟨w1, w2⟩ := amThr1.use hC
  have hb0 := amBase hR
  refine vy_npe hC.1 hl w1 w2 (amZq hC (i := 20) (List.mem_of_getElem? (i := 0) rfl)) (amZq hC (i := 21) (List.mem_of_getElem? (i := 1) rfl)) hS (by rw [hC.2.2.1]; exact hL.2.1) (by rw [hRm]; show 7 < dR; omega) (by rw [hRm]; show _ ≤ 12000 + 64 * dR; omega) hk hz hlk ?_
  intro H1 q9 ce z1 z2 z3 z4 z5 z6 z7
  have := kx (amN0 + (q9 - G.2.2.1)) (H1.size - H.size) H1 locs lsv rest ce (hR.more z1 z2) z3 hL (by rw [amId (by omega)]; exact z4) z5 z7
  rwa [amId (by omega)] at this
theorem amFX.widen {ex q k' z' : Nat} (h1 : k ≤ k') (h2 : z ≤ z') (hk : amFX G p l e R s m args below meth c nL Q pc ls ex q h k' z') : amFX G p l e R s m args below meth c nL Q pc ls ex q h k z := fun H locs lsv rest ce a1 a2 a3 a4 a5 a6 => vx_widen h1 h2 (hk H locs lsv rest ce a1 a2 a3 a4 a5 a6)
end AMXT
/-! ### stores -/
def amTbst : amXT := fun as h K KX => match as with
  | [.null, .int _, .int _] => ∀ q d, KX 1 q (amMore h d)
  | [.ref a, .int i, .int x] => (h.1 a).1 = 2 ∧ (h.1 a).2 < 2147483648 ∧ amN0 ≤ a ∧ (vp_in i (h.1 a).2 → K none (amWr h a i.toNatClampNeg (.int (vp_nar .byte x)))) ∧ (¬ vp_in i (h.1 a).2 → ∀ q d, KX 3 q (amMore h d))
  | _ => False
def amTsst : amXT := fun as h K KX => match as with
  | [.null, .int _, .int _] => ∀ q d, KX 1 q (amMore h d)
  | [.ref a, .int i, .int x] => (h.1 a).1 = 4 ∧ (h.1 a).2 < 2147483648 ∧ amN0 ≤ a ∧ (vp_in i (h.1 a).2 → K none (amWr h a i.toNatClampNeg (.int (vp_nar .short x)))) ∧ (¬ vp_in i (h.1 a).2 → ∀ q d, KX 3 q (amMore h d))
  | _ => False
def amTist : amXT := fun as h K KX => match as with
  | [.null, .int _, .int _] => ∀ q d, KX 1 q (amMore h d)
  | [.ref a, .int i, .int x] => (h.1 a).1 = 1 ∧ (h.1 a).2 < 2147483648 ∧ amN0 ≤ a ∧ (vp_in i (h.1 a).2 → K none (amWr h a i.toNatClampNeg (.int x))) ∧ (¬ vp_in i (h.1 a).2 → ∀ q d, KX 3 q (amMore h d))
  | _ => False
def amTlst : amXT := fun as h K KX => match as with
  | [.null, .int _, .long _] => ∀ q d, KX 1 q (amMore h d)
  | [.ref a, .int i, .long x] => (h.1 a).1 = 5 ∧ (h.1 a).2 < 2147483648 ∧ amN0 ≤ a ∧ (vp_in i (h.1 a).2 → K none (amWr h a i.toNatClampNeg (.long x))) ∧ (¬ vp_in i (h.1 a).2 → ∀ q d, KX 3 q (amMore h d))
  | _ => False
theorem amCatR (G : amG) {st : List Value} (h : (st.map fun v => v.category).sum ≤ 8) : ((st.map (amV G)).map fun v => v.category).sum ≤ 1700 := by
  rw [amCats]
  omega
abbrev amIxT (i : Int32) (n : Nat) : String := toString "Index " ++ toString i ++ toString " out of bounds for length " ++ toString n
section AMXST
variable {G : amG} {l : Launch} {own nm ds : String} {R : Room} {dR mcR msR pc : Nat}
theorem amSiteBst (hl : l.stackTraces = false) (hRm : R = amRm dR mcR msR) (hd8 : 8 ≤ dR) : amSiteX pc G l own nm ds R .bastore 1 3 3 222 amTbst := by
  intro cc nL p e s m args below meth c Q ls as st h k z K KX hC hnm hlk hd hT hn hcat hk hz kk kx
  match as, hT with
  | [.null, .int i, .int x], hT =>
    intro H locs lsv hR hS hL
    exact vx_bastoreN hC.1 hC.2.1 hd (amNpe hC hl hlk hRm hd8 (by omega) (by omega) hR hS hL (amCatR G hcat) (fun q d => (kx 1 q _ (hT q d)).widen (by omega) (by omega)))
  | [.ref a, .int i, .int x], hT =>
    obtain ⟨t1, t2, t3, t4, t5⟩ := hT
    by_cases hin : vp_in i (h.1 a).2
    · exact am_bastore hC hd (Prod.ext t1 rfl) hin t3 ((kk _ _ (t4 hin)).widen (by omega) (by omega))
    · intro H locs lsv hR hS hL T hT X
      have hc := hR.arr (a := a) (k := 2) (n := (h.1 a).2) (Prod.ext t1 rfl) (by omega) (by omega)
      obtain ⟨t, st1, q⟩ := amVm (ex := 3) (nb := 212) (text := amIxT i (h.1 a).2) (Or.inr (Or.inl rfl)) hC hl hlk hRm hd8 (index_text_modelled _ _) (index_text_bytes _ t2) (by omega) (by omega) (by omega) hR hS hL (amCatR G hcat) (fun q d => (kx 3 q _ (t5 hin q d)).widen (by omega) (by omega)) T hT X
      have h1 := X.bastoreOut hC.1 (by rw [hT]; exact hc.1.own t3) ((amArrT hC.2.2.2.2.2.1 (k := 2) (by omega) (by omega)).1 _ _) (j := i) (by rw [arrV_size]; exact Classical.byContradiction hin) (g := F0 m pc lsv (.int x :: .int i :: .ref (amAd G a) :: st.map (amV G))) rfl (rest := st.map (amV G)) rfl (by rw [hC.2.1]; exact hd) t
      simp only [arrV_size] at h1
      exact ⟨t, h1 st1, q⟩
theorem amSiteSst (hl : l.stackTraces = false) (hRm : R = amRm dR mcR msR) (hd8 : 8 ≤ dR) : amSiteX pc G l own nm ds R .sastore 1 3 3 222 amTsst := by
  intro cc nL p e s m args below meth c Q ls as st h k z K KX hC hnm hlk hd hT hn hcat hk hz kk kx
  match as, hT with
  | [.null, .int i, .int x], hT =>
    intro H locs lsv hR hS hL
    exact vx_sastoreN hC.1 hC.2.1 hd (amNpe hC hl hlk hRm hd8 (by omega) (by omega) hR hS hL (amCatR G hcat) (fun q d => (kx 1 q _ (hT q d)).widen (by omega) (by omega)))
  | [.ref a, .int i, .int x], hT =>
    obtain ⟨t1, t2, t3, t4, t5⟩ := hT
    by_cases hin : vp_in i (h.1 a).2
    · exact am_sastore hC hd (Prod.ext t1 rfl) hin t3 ((kk _ _ (t4 hin)).widen (by omega) (by omega))
    · intro H locs lsv hR hS hL T hT X
      have hc := hR.arr (a := a) (k := 4) (n := (h.1 a).2) (Prod.ext t1 rfl) (by omega) (by omega)
      obtain ⟨t, st1, q⟩ := amVm (ex := 3) (nb := 212) (text := amIxT i (h.1 a).2) (Or.inr (Or.inl rfl)) hC hl hlk hRm hd8 (index_text_modelled _ _) (index_text_bytes _ t2) (by omega) (by omega) (by omega) hR hS hL (amCatR G hcat) (fun q d => (kx 3 q _ (t5 hin q d)).widen (by omega) (by omega)) T hT X
      have h1 := X.sastoreOut hC.1 (by rw [hT]; exact hc.1.own t3) ((amArrT hC.2.2.2.2.2.1 (k := 4) (by omega) (by omega)).1 _ _) (j := i) (by rw [arrV_size]; exact Classical.byContradiction hin) (g := F0 m pc lsv (.int x :: .int i :: .ref (amAd G a) :: st.map (amV G))) rfl (rest := st.map (amV G)) rfl (by rw [hC.2.1]; exact hd) t
      simp only [arrV_size] at h1
      exact ⟨t, h1 st1, q⟩
theorem amSiteIst (hl : l.stackTraces = false) (hRm : R = amRm dR mcR msR) (hd8 : 8 ≤ dR) : amSiteX pc G l own nm ds R .iastore 1 3 3 222 amTist := by
  intro cc nL p e s m args below meth c Q ls as st h k z K KX hC hnm hlk hd hT hn hcat hk hz kk kx
  match as, hT with
  | [.null, .int i, .int x], hT =>
    intro H locs lsv hR hS hL
    exact vx_iastoreN hC.1 hC.2.1 hd (amNpe hC hl hlk hRm hd8 (by omega) (by omega) hR hS hL (amCatR G hcat) (fun q d => (kx 1 q _ (hT q d)).widen (by omega) (by omega)))
  | [.ref a, .int i, .int x], hT =>
    obtain ⟨t1, t2, t3, t4, t5⟩ := hT
    by_cases hin : vp_in i (h.1 a).2
    · exact am_iastore hC hd (Prod.ext t1 rfl) hin t3 ((kk _ _ (t4 hin)).widen (by omega) (by omega))
    · intro H locs lsv hR hS hL T hT X
      have hc := hR.arr (a := a) (k := 1) (n := (h.1 a).2) (Prod.ext t1 rfl) (by omega) (by omega)
      obtain ⟨t, st1, q⟩ := amVm (ex := 3) (nb := 212) (text := amIxT i (h.1 a).2) (Or.inr (Or.inl rfl)) hC hl hlk hRm hd8 (index_text_modelled _ _) (index_text_bytes _ t2) (by omega) (by omega) (by omega) hR hS hL (amCatR G hcat) (fun q d => (kx 3 q _ (t5 hin q d)).widen (by omega) (by omega)) T hT X
      have h1 := X.iastoreOut hC.1 (by rw [hT]; exact hc.1.own t3) ((amArrT hC.2.2.2.2.2.1 (k := 1) (by omega) (by omega)).1 _ _) (j := i) (by rw [arrV_size]; exact Classical.byContradiction hin) (g := F0 m pc lsv (.int x :: .int i :: .ref (amAd G a) :: st.map (amV G))) rfl (rest := st.map (amV G)) rfl (by rw [hC.2.1]; exact hd) t
      simp only [arrV_size] at h1
      exact ⟨t, h1 st1, q⟩
theorem amSiteLst (hl : l.stackTraces = false) (hRm : R = amRm dR mcR msR) (hd8 : 8 ≤ dR) : amSiteX pc G l own nm ds R .lastore 1 3 3 222 amTlst := by
  intro cc nL p e s m args below meth c Q ls as st h k z K KX hC hnm hlk hd hT hn hcat hk hz kk kx
  match as, hT with
  | [.null, .int i, .long x], hT =>
    intro H locs lsv hR hS hL
    exact vx_lastoreN hC.1 hC.2.1 hd (amNpe hC hl hlk hRm hd8 (by omega) (by omega) hR hS hL (amCatR G hcat) (fun q d => (kx 1 q _ (hT q d)).widen (by omega) (by omega)))
  | [.ref a, .int i, .long x], hT =>
    obtain ⟨t1, t2, t3, t4, t5⟩ := hT
    by_cases hin : vp_in i (h.1 a).2
    · exact am_lastore hC hd (Prod.ext t1 rfl) hin t3 ((kk _ _ (t4 hin)).widen (by omega) (by omega))
    · intro H locs lsv hR hS hL T hT X
      have hc := hR.arr (a := a) (k := 5) (n := (h.1 a).2) (Prod.ext t1 rfl) (by omega) (by omega)
      obtain ⟨t, st1, q⟩ := amVm (ex := 3) (nb := 212) (text := amIxT i (h.1 a).2) (Or.inr (Or.inl rfl)) hC hl hlk hRm hd8 (index_text_modelled _ _) (index_text_bytes _ t2) (by omega) (by omega) (by omega) hR hS hL (amCatR G hcat) (fun q d => (kx 3 q _ (t5 hin q d)).widen (by omega) (by omega)) T hT X
      have h1 := X.lastoreOut hC.1 (by rw [hT]; exact hc.1.own t3) ((amArrT hC.2.2.2.2.2.1 (k := 5) (by omega) (by omega)).1 _ _) (j := i) (by rw [arrV_size]; exact Classical.byContradiction hin) (g := F0 m pc lsv (.long x :: .int i :: .ref (amAd G a) :: st.map (amV G))) rfl (rest := st.map (amV G)) rfl (by rw [hC.2.1]; exact hd) t
      simp only [arrV_size] at h1
      exact ⟨t, h1 st1, q⟩
/-! ### new arrays -/
def amTnewX (kd : Nat) : amXT := fun as h K KX => match as with
  | [.int n] => n.toNatClampNeg ≤ 24 ∧ (¬ n < 0 → K (some (.ref h.2.2.2.2)) (amNew h (kd, n.toNatClampNeg))) ∧ (n < 0 → ∀ q d, KX 4 q (amMore h d))
  | _ => False
theorem amSiteNewX {t : ArrayType} (hl : l.stackTraces = false) (hRm : R = amRm dR mcR msR) (hd8 : 8 ≤ dR) (ht : 1 ≤ amAk t) : amSiteX pc G l own nm ds R (.newarray t) 2 1 3 54 (amTnewX (amAk t)) := by
  intro cc nL p e s m args below meth c Q ls as st h k z K KX hC hnm hlk hd hT hn hcat hk hz kk kx
  match as, hT with
  | [.int n], hT =>
    obtain ⟨t1, t2, t3⟩ := hT
    by_cases hneg : n < 0
    · intro H locs lsv hR hS hL
      refine vx_newarrayZ hC.1 hC.2.1 hneg hd (fun tx etx => ?_)
      subst etx
      exact amVm (ex := 4) (nb := 44) (Or.inr (Or.inr (Or.inl rfl))) hC hl hlk hRm hd8 (negative_text_modelled hneg) (negative_text_bytes n) (by omega) (by omega) (by omega) hR hS hL (amCatR G hcat) (fun q d => (kx 4 q _ (t3 hneg q d)).widen (by omega) (by omega))
    · exact am_newarray hC hd ht hneg (by omega) (by omega) (by omega) ((kk _ _ (t2 hneg)).widen (by omega) (by omega))
end AMXST
