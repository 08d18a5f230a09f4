/-! System.arraycopy of houses -/
set_option maxRecDepth 100000
theorem amSiteCpR {G : amG} {l : Launch} {own nm : String} {R : Room} {idx dR mcR msR : Nat} (hRm : R = amRm dR mcR msR) (hd1 : 1 ≤ dR) (hl : Cond.methodLink own idx arraycopyName ∈ lw_all) (hw1 : Cond.native arraycopyName ∈ lw_all) (hw2 : Cond.static arraycopyName ∈ lw_all) (hw3 : Cond.initialized "java/lang/System" ∈ lw_all) : amSite G l own nm R (.invokestatic idx) 3 5 0 0 amTcpR := by
  intro cc nL p e s m args below meth c Q pc ls as st h k z K hC hnm hd hT hn hcat hk hz kk
  match as, hT with
  | [.ref src, .int sp, .ref dst, .int dp, .int n], hT =>
  obtain ⟨t1, t3, tO, t4, t5, t6, t7, t8, t9, t10⟩ := hT
  intro H locs lsv hR hS hL T hT0 X
  obtain ⟨hx, hb, hml, hown, hts, hK, hb0⟩ := hC
  have hcs := hR.arr (a := src) (k := 7) (n := (h.1 src).2) (Prod.ext t1 rfl) (by decide) (by decide)
  have hcd := hR.arr (a := dst) (k := 7) (n := (h.1 dst).2) (Prod.ext t3 rfl) (by decide) (by decide)
  generalize hn0 : (h.1 src).2 = n0 at t7 hcs
  generalize hn1 : (h.1 dst).2 = n1 at t8 hcd
  have hrd : ∀ (a j : Nat), amV G (amRd (amEt 7 j) h a j) = va_rf ((h.2.2.2.1 a j).map (amAd G)) := fun a j => amV_rf G _
  have e0 : (fun j => amV G (amRd (amEt 7 j) h src j)) = fun j => va_rf ((h.2.2.2.1 src j).map (amAd G)) := funext (hrd src)
  have e1 : (fun j => amV G (amRd (amEt 7 j) h dst j)) = fun j => va_rf ((h.2.2.2.1 dst j).map (amAd G)) := funext (hrd dst)
  have hc0 := hcs.1
  have hc1 := hcd.1.own t9
  rw [e0] at hc0
  rw [e1] at hc1
  obtain ⟨ce, hc0, ⟨x2, x3, x4, x5⟩, -⟩ := hc0
  have hRA := (amArrT hK (k := 7) (by decide) (by decide)).2
  obtain ⟨kA, comp, k1, k2, k3, -⟩ := hRA
  have hcls := (hK.1.1 1 (RX1, TX1, 8) rfl).2
  have hcomp : comp = G.1.1 1 := Option.some.inj (k3.symm.trans hcls.1)
  subst hcomp
  obtain ⟨kC, hkC, -⟩ := hcls.2
  obtain ⟨vm', X', step⟩ := X.arraycopy hx hown (hts _ hl) (hts _ hw1) (hts _ hw2) (hts _ hw3) (src := amAd G src) (dst := amAd G dst) (cs := ce) (cd := arrV (G.2.1 7) n1 (fun j => va_rf ((h.2.2.2.1 dst j).map (amAd G)))) (srcPos := sp) (destPos := dp) (n := n) (by rw [hT0]; exact hc0) (by rw [hT0]; exact hc1)
    (fun _ h => by rw [h] at x4; cases x4) (fun _ h => by cases h) x5 (fun h => by cases h) (by rw [x2]; exact k1) k1 k2 k2 (by simp) t4 t5 t6
    (by rw [amNN sp t4, amNN n t6, x3, arrV_size]; omega)
    (by rw [amNN dp t5, amNN n t6, arrV_size]; omega)
    (fun vm₁ hal i hi => by
      have e : ce.slots.getD (sp.toNatClampNeg + i) .null = va_rf ((h.2.2.2.1 src (sp.toNatClampNeg + i)).map (amAd G)) := by
        rw [x3, Array.getD_eq_getD_getElem?, arrV_read _ _ (by omega)]
        rfl
      rw [e]
      cases hy : h.2.2.2.1 src (sp.toNatClampNeg + i) with
      | none => exact ⟨rfl, trivial⟩
      | some y =>
        refine ⟨rfl, ?_⟩
        obtain ⟨r, hr, cellV, g1, g2, g3, -⟩ := hR.obj (tO i y hi hy)
        cases hr
        obtain ⟨k', hk', -⟩ := hal.2.2 _ _ hkC
        have q1 : T.heap[amAd G y]? = some cellV := by rw [hT0]; exact g1
        have q2 : ∀ k, cellV.vm ≠ .statics k := fun q h => by have g4 := g3.1.1; rw [h] at g4; cases g4
        have q3 : vm₁.assignable cellV.cls (G.1.1 1) = true := by rw [g2, hal.assignable]; exact va_assign hcls
        exact ⟨cellV, q1, q2, ⟨k', by rw [g2]; exact hk'⟩, ⟨k', hk'⟩, q3⟩)
    (g := F0 m pc lsv (.int n :: .int dp :: .ref (amAd G dst) :: .int sp :: .ref (amAd G src) :: st.map (amV G))) rfl (by rw [hml]; exact hL.2.1) (rest := st.map (amV G)) rfl (by rw [hb]; exact hd) (by rw [hRm]; exact hd1) (by
      rw [hRm, amCats]
      show 2 * 0 + _ + (nativeFrameWords "java/lang/System" "arraycopy" 5 + 11) ≤ 12000 + 64 * dR
      have : nativeFrameWords "java/lang/System" "arraycopy" 5 + 11 ≤ 11000 := by decide +kernel
      omega)
  have e3 : ∀ cd sp dp n, copied ce cd sp dp n = copied (arrV (G.2.1 7) n0 (fun j => va_rf ((h.2.2.2.1 src j).map (amAd G)))) cd sp dp n := fun cd sp dp n => by unfold copied Cell.stretch; rw [x3]
  rw [e3] at X' step
  have e2 : copied (arrV (G.2.1 7) n0 (fun j => va_rf ((h.2.2.2.1 src j).map (amAd G)))) (arrV (G.2.1 7) n1 (fun j => va_rf ((h.2.2.2.1 dst j).map (amAd G)))) sp dp n = arrV (G.2.1 7) n1 (fun j => va_rf ((va_cpy (h.2.2.2.1 src) (h.2.2.2.1 dst) sp.toNatClampNeg dp.toNatClampNeg n.toNatClampNeg j).map (amAd G))) := va_copied (fun z : Option Nat => va_rf (z.map (amAd G))) (G.2.1 7) (G.2.1 7) (h.2.2.2.1 src) (h.2.2.2.1 dst) t7
  rw [e2] at X' step
  generalize hF : (fun j => va_rf ((va_cpy (h.2.2.2.1 src) (h.2.2.2.1 dst) sp.toNatClampNeg dp.toNatClampNeg n.toNatClampNeg j).map (amAd G))) = f at X' step
  have hlt : amAd G dst < H.size := (Array.getElem?_eq_some_iff.mp hc1).1
  generalize hH1 : H.setIfInBounds (amAd G dst) (arrV (G.2.1 7) n1 f) = H1
  have hheap : ((T.setVm vm').setCell (amAd G dst) (arrV (G.2.1 7) n1 f)).heap = H1 := by rw [← hH1, ← hT0]; rfl
  have hz1 : H1.size = H.size := by rw [← hH1]; simp
  have hat : H1[amAd G dst]? = some (arrV (G.2.1 7) n1 f) := by rw [← hH1]; simp [Array.getElem?_setIfInBounds, hlt]
  have oq : ∀ q : Nat, q ≠ amAd G dst → H1[q]? = H[q]? := fun q hq => by rw [← hH1]; simp [Array.getElem?_setIfInBounds, Ne.symm hq]
  have hR' : amRep G (h.1, h.2.1, h.2.2.1, va_up h.2.2.2.1 dst (va_cpy (h.2.2.2.1 src) (h.2.2.2.1 dst) sp.toNatClampNeg dp.toNatClampNeg n.toNatClampNeg), h.2.2.2.2) H1 := by
    refine hR.upd t9 hz1 oq rfl rfl (fun i hi => ⟨rfl, rfl, by simp [va_up, hi]⟩) ⟨fun q => ?_, fun _ _ => ?_⟩
    · have q : (h.1 dst).1 = 0 := q
      rw [t3] at q
      cases q
    · show amArr G _ dst (h.1 dst).1 (h.1 dst).2 H1
      rw [t3, hn1]
      refine ⟨?_, fun j hj hm => by cases hm⟩
      refine amAV.of ?_
      rw [hat, ← hF]
      congr 2
      funext j
      have e9 : amV G (amRd (amEt 7 j) (h.1, h.2.1, h.2.2.1, va_up h.2.2.2.1 dst (va_cpy (h.2.2.2.1 src) (h.2.2.2.1 dst) sp.toNatClampNeg dp.toNatClampNeg n.toNatClampNeg), h.2.2.2.2) dst j) = amV G (va_rf (va_up h.2.2.2.1 dst (va_cpy (h.2.2.2.1 src) (h.2.2.2.1 dst) sp.toNatClampNeg dp.toNatClampNeg n.toNatClampNeg) dst j)) := rfl
      rw [e9, amV_rf]
      simp [va_up]
  obtain ⟨t, a1, b1⟩ := kk _ _ t10 H1 _ lsv hR' ⟨by rw [hz1]; exact hS.1, fun q g1 g2 => by
      rw [oq q (fun e => g2 (by rw [e]; exact amAd_own t9))]
      exact hS.2.1 q g1 g2, fun q hq => by
      rcases List.mem_append.mp hq with h | h
      · exact hS.2.2 q h
      · obtain ⟨z, -, hz⟩ := List.mem_map.mp h
        rw [← hz]
        exact amAd_own t9⟩ hL _ hheap X'
  exact ⟨t, step t a1, b1⟩
