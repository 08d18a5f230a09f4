/-! the constants' cells stay as they are -/
set_option maxRecDepth 100000
def amFix (h h' : amH) : amH := (fun i => if i < 24 then h.1 i else h'.1 i, fun i => if i < 24 then h.2.1 i else h'.2.1 i, fun i => if i < 24 then h.2.2.1 i else h'.2.2.1 i, fun i => if i < 24 then h.2.2.2.1 i else h'.2.2.2.1 i, h'.2.2.2.2)
def amTfix (T : amT) : amT := fun as h K => T as h (fun v h' => K v (amFix h h'))
theorem amFix_hi {h h' : amH} {i : Nat} (hi : 24 ≤ i) : amSame h' (amFix h h') i := ⟨if_neg (by omega), if_neg (by omega), if_neg (by omega), if_neg (by omega)⟩
theorem amFix_lo {h h' : amH} {i : Nat} (hi : i < 24) : amSame h (amFix h h') i := ⟨if_pos hi, if_pos hi, if_pos hi, if_pos hi⟩
theorem amMet.fix {l : Launch} {G : amG} {y : MethodName} {ws : List Cond} {d mc ms : Nat} {T : amT} (hM : amMet l G y ws d mc ms T) : amMet l G y ws d mc ms (amTfix T) := by
  intro as h K hT p e h1 h2 h3 s m args below h4 h5 h6 h7
  obtain ⟨n, o, a1, a2, a3, ⟨⟨v, h', e1, hK, hR'⟩, hF⟩, a5⟩ := hM as h _ hT p e h1 h2 h3 s m args below h4 h5 h6 h7
  refine ⟨n, o, a1, a2, a3, ⟨⟨v, amFix h h', e1, hK, ?_⟩, hF⟩, a5⟩
  have q : amPc G as h args s := h6
  have hR : amRep G h s.heap := q.2.1
  have n24 := hR'.2.2.1
  refine ⟨fun i => ?_, hR'.2.1, hR'.2.2.1, fun i hi => ?_, hR'.2.2.2.2.1, hR.2.2.2.2.2.mv2 (fun i hi => (amFix_lo hi).1) (fun i hi => ⟨(amFix_lo hi).2.1, (amFix_lo hi).2.2.2⟩)⟩
  · by_cases c : i < 24
    · obtain ⟨f1, f2, f3, f4⟩ := amFix_lo (h := h) (h' := h') c
      have ad : amAd G i < G.2.2.1 := by
        unfold amAd
        rw [if_pos (show i < amN0 from c)]
        exact hR.2.2.2.2.1 i c
      refine (hR.1 i).kept f1 (hF.2 _ (Nat.lt_of_lt_of_le ad (amBase hR)) ?_) f2 f3 f4
      show ¬ G.2.2.1 ≤ amAd G i
      omega
    · obtain ⟨f1, f2, f3, f4⟩ := amFix_hi (h := h) (h' := h') (show 24 ≤ i by omega)
      exact (hR'.1 i).kept f1 rfl f2 f3 f4
  · have hi : h'.2.2.2.2 ≤ i := hi
    have n24 : 24 ≤ h'.2.2.2.2 := n24
    rw [(amFix_hi (h := h) (h' := h') (show 24 ≤ i by omega)).1]
    exact hR'.2.2.2.1 i hi
theorem RsW.hi {h h' : amH} {X : XS} (w : RsW h X) (f : ∀ i : Nat, 24 ≤ i → amSame h h' i) (hn : h'.2.2.2.2 = h.2.2.2.2) : RsW h' X := by
  obtain ⟨⟨w1, w2, w3, w4⟩, w5, w6, w7, w8, w9, w10, w11⟩ := w
  have e1 : ∀ i : Nat, 24 ≤ i → h'.1 i = h.1 i := fun i hi => (f i hi).1
  have e2 : ∀ i : Nat, 24 ≤ i → h'.2.1 i = h.2.1 i := fun i hi => (f i hi).2.1
  have e4 : ∀ i : Nat, 24 ≤ i → h'.2.2.2.1 i = h.2.2.2.1 i := fun i hi => (f i hi).2.2.2
  have at_ : rsAt h' := by
    have s := w1.s
    have r := w1.r
    refine ⟨?_, ?_⟩
    · unfold rsSh
      simp (disch := omega) only [e1, s, and_self]
    · unfold rsRf
      simp (disch := omega) only [e4, r, and_self]
  refine ⟨⟨at_, w2.kept (fun i h1 h2 => e2 i (by omega)), w3, by rw [hn]; exact w4⟩, fun j hj => ⟨(w5 j hj).1.mv (fun i h1 h2 => ⟨e1 i (by omega), e4 i (by omega)⟩), (w5 j hj).2.mv (fun i h1 h2 => ⟨e1 i (by omega), e4 i (by omega)⟩)⟩, fun k hk => by rw [e4 55 (by omega)]; exact w6 k hk, w7.mv (by rw [e2 24 (by omega)]) (e4 41 (by omega)) (fun i hi => e2 i (by unfold pastC at hi; omega)), w8, ?_, w10.mv (e2 43 (by omega)) (e2 44 (by omega)), w11.mv (fun s hs => e4 _ (by omega)) (by rw [hn]; exact Nat.le_refl _) (fun i h1 h2 => ⟨e1 i (by omega), e2 i (by omega), (f i (by omega)).2.2.1⟩)⟩
  show KpIs h'.2.1 X.2.2.1
  cases hc : X.2.2.1 with
  | none =>
    rw [hc] at w9
    show h'.2.1 24 23 = nI 0
    rw [e2 24 (by omega)]; exact w9
  | some v =>
    obtain ⟨S, U⟩ := v
    rw [hc] at w9
    obtain ⟨q1, q2, q3, q4, q5, q6, q7⟩ := w9
    refine ⟨?_, ?_, q3, q4, ?_, fun k hk => ?_, q7⟩
    · rw [e2 24 (by omega)]; exact q1
    · exact q2.kept (fun i h1 h2 => e2 i (by omega))
    · rw [e2 24 (by omega)]; exact q5
    · exact (q6 k hk).kept (fun i h1 h2 => e2 i (by omega))
/-- the law's two, side by side -/
def LwS (g : amH) (X Y : XS) : Prop := RsW g X ∧ MdW g Y
theorem LwS.x {g h' : amH} {X X1 Y : XS} (w : LwS g X Y) (f : rsFr g h') (w1 : RsW h' X1) : LwS (amFix g h') X1 Y := by
  obtain ⟨a1, a2⟩ := w
  exact ⟨w1.hi (fun i hi => amFix_hi hi) rfl, MdW.rs (h := g) a2 ⟨f.1, fun i h1 h2 => (f.2 i h1 h2).tr (amFix_hi (by omega))⟩⟩
