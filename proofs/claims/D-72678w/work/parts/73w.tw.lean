/-! AM: rules for what may throw; a call of a method with handlers -/
set_option maxRecDepth 100000
section
variable {h : amH} {K : Option Value → amH → Prop} {KX : Nat → Nat → amH → Prop} {kd a q : Nat} {i x n : Int32} {y : Int64}
theorem amTcast_n : amTcast kd [.null] h K KX = K (some .null) h := rfl
theorem amTcast_r : amTcast kd [.ref a] h K KX = (amAr (h.1 a).1 ∧ ((h.1 a).1 = kd → K (some (.ref a)) h) ∧ (¬ (h.1 a).1 = kd → ∀ q d, KX 2 q (amMore h d))) := rfl
theorem amTbst_n : amTbst [.null, .int i, .int x] h K KX = ∀ q d, KX 1 q (amMore h d) := rfl
theorem amTsst_n : amTsst [.null, .int i, .int x] h K KX = ∀ q d, KX 1 q (amMore h d) := rfl
theorem amTist_n : amTist [.null, .int i, .int x] h K KX = ∀ q d, KX 1 q (amMore h d) := rfl
theorem amTlst_n : amTlst [.null, .int i, .long y] h K KX = ∀ q d, KX 1 q (amMore h d) := rfl
theorem amTbst_r : amTbst [.ref a, .int i, .int x] h K KX = ((h.1 a).1 = 2 ∧ (h.1 a).2 < 2147483648 ∧ amN0 ≤ a ∧ (vp_in i (h.1 a).2 → K none (amWr h a i.toNatClampNeg (.int (vp_nar .byte x)))) ∧ (¬ vp_in i (h.1 a).2 → ∀ q d, KX 3 q (amMore h d))) := rfl
theorem amTsst_r : amTsst [.ref a, .int i, .int x] h K KX = ((h.1 a).1 = 4 ∧ (h.1 a).2 < 2147483648 ∧ amN0 ≤ a ∧ (vp_in i (h.1 a).2 → K none (amWr h a i.toNatClampNeg (.int (vp_nar .short x)))) ∧ (¬ vp_in i (h.1 a).2 → ∀ q d, KX 3 q (amMore h d))) := rfl
theorem amTist_r : amTist [.ref a, .int i, .int x] h K KX = ((h.1 a).1 = 1 ∧ (h.1 a).2 < 2147483648 ∧ amN0 ≤ a ∧ (vp_in i (h.1 a).2 → K none (amWr h a i.toNatClampNeg (.int x))) ∧ (¬ vp_in i (h.1 a).2 → ∀ q d, KX 3 q (amMore h d))) := rfl
theorem amTlst_r : amTlst [.ref a, .int i, .long y] h K KX = ((h.1 a).1 = 5 ∧ (h.1 a).2 < 2147483648 ∧ amN0 ≤ a ∧ (vp_in i (h.1 a).2 → K none (amWr h a i.toNatClampNeg (.long y))) ∧ (¬ vp_in i (h.1 a).2 → ∀ q d, KX 3 q (amMore h d))) := rfl
theorem amTnewX_d : amTnewX kd [.int n] h K KX = (n.toNatClampNeg ≤ 24 ∧ (¬ n < 0 → K (some (.ref h.2.2.2.2)) (amNew h (kd, n.toNatClampNeg))) ∧ (n < 0 → ∀ q d, KX 4 q (amMore h d))) := rfl
theorem amTthrow_d : amTthrow [.ref q] h K KX = (h.1 q = (0, 3) ∧ amN0 ≤ q ∧ KX 0 q h) := rfl
end
theorem amRetX.of {mc ms : Nat} {KX : Nat → Nat → amH → Prop} {ex q : Nat} {h : amH} {k z : Nat} (h1 : k ≤ mc) (h2 : z ≤ ms) (h3 : KX ex q h) : amRetX mc ms KX ex q h k z := ⟨h1, h2, h, amEq.rf, h3⟩
theorem amSiteVW {G : amG} {l : Launch} {own nm : String} {R : Room} {idx d mc ms maxL n ci dR mcR msR : Nat} {y : MethodName} {bytes : ByteArray} {ret : Option FieldType} {T : amT} {C : String} {hh : List (Nat × Nat × Nat × Nat)} (hM : amMet l G y (wsW_ y bytes maxL ret hh) d mc ms T) (hRm : R = amRm dR mcR msR) (hd : d + 1 ≤ dR) (hm : maxL ≤ 40) (hw : GoodIn lw_all (wsV own idx C y (wsW_ y bytes maxL ret hh))) (hq : ∃ q, amCl[ci]? = some q ∧ q.1 = C)
    (hy : y.cls = C ∧ y.cls ≠ "java/lang/invoke/MethodHandle" ∧ y.cls ≠ "java/lang/invoke/VarHandle" ∧ (parseMethodDescriptor y.desc).map (fun d => d.parameters.length) = some n) : amSite G l own nm R (.invokevirtual idx) 3 (n + 1) mc ms (amRecv ci T) := by
  intro cc nL p e s m args below meth c Q pc ls as st h k z K hC hnm hd' hT hn hcat hk hz kk H locs lsv hR hS hL
  obtain ⟨hx, hb, hml, hown, hts, hK, hb0⟩ := hC
  obtain ⟨q, hq, rfl⟩ := hq
  cases as with
  | nil => exact hT.elim
  | cons a t =>
    cases a with
    | ref b =>
      obtain ⟨hs, hT⟩ := hT
      refine amRun (vx_runVW (As := t.map (amV G)) (rest := st.map (amV G)) ⟨hx, hb, hml, hown, hts⟩ (hM _ h K hT) (vx_cwVW n hts hw rfl rfl rfl hy (amRoom hRm hd hm)) (amPreV hK hR hS hq hs) rfl (by simp only [List.length_map, List.length_cons] at hn ⊢; omega) hL.2.1 ?_ (lv_room (by rw [amCats]; exact hcat)) hd' ⟨hk, hz⟩) hS hL kk
      show ((.ref b :: t).reverse ++ st).map (amV G) = _
      rw [amStk]
      simp [amV]
    | _ => exact hT.elim
