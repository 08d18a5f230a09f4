/-! Math.max, Math.min: run by the machine's own rows -/
set_option maxRecDepth 100000
def amTmax : amT := fun as h K => match as with
  | [.int x, .int y] => K (some (.int (if x < y then y else x))) h
  | _ => False
def amTmin : amT := fun as h K => match as with
  | [.int x, .int y] => K (some (.int (if y < x then y else x))) h
  | _ => False
theorem amTmax_d {x y : Int32} {h : amH} {K : Option Value → amH → Prop} : amTmax [.int x, .int y] h K = K (some (.int (if x < y then y else x))) h := rfl
theorem amTmin_d {x y : Int32} {h : amH} {K : Option Value → amH → Prop} : amTmin [.int x, .int y] h K = K (some (.int (if y < x then y else x))) h := rfl
theorem amMaxCode : (Cond.code Lib.Math.max.name Lib.Math.max.code 2 (some .int)) ∈ lw_all := by
  have e : prog_21_method_65_code = Lib.Math.max.code := by decide +kernel
  have := q462
  rw [e] at this
  exact this
theorem amMinCode : (Cond.code Lib.Math.min.name Lib.Math.min.code 2 (some .int)) ∈ lw_all := by
  have e : prog_21_method_69_code = Lib.Math.min.code := by decide +kernel
  have := q678
  rw [e] at this
  exact this
theorem amSiteMax {G : amG} {l : Launch} {own nm : String} {R : Room} {idx dR mcR msR : Nat} (hRm : R = amRm dR mcR msR) (hd1 : 1 ≤ dR) (hl : Cond.methodLink own idx Lib.Math.max.name ∈ lw_all) : amSite G l own nm R (.invokestatic idx) 3 2 0 0 amTmax := by
  intro cc nL p e s m args below meth c Q pc ls as st h k z K hC hnm hd hT hn hcat hk hz kk H locs lsv hR hS hL
  obtain ⟨hx, hb, hml, hown, hts, hK, hb0⟩ := hC
  match as, hT with
  | [.int x, .int y], hT =>
  have hs1 : lsv.size = nL := hL.2.1
  refine va_mmax hx hb (by rw [hml]; exact hs1.symm) hown (hts _ hl) (hts _ q461) (hts _ q98) (hts _ amMaxCode) (by rw [hRm]; exact hd1) (by rw [hRm]; show ((st.map (amV G)).map fun v => v.category).sum + 13 ≤ 12000 + 64 * dR; rw [amCats]; omega) hk hz hd ?_
  exact kk _ _ hT H locs lsv hR hS hL
theorem amSiteMin {G : amG} {l : Launch} {own nm : String} {R : Room} {idx dR mcR msR : Nat} (hRm : R = amRm dR mcR msR) (hd1 : 1 ≤ dR) (hl : Cond.methodLink own idx Lib.Math.min.name ∈ lw_all) : amSite G l own nm R (.invokestatic idx) 3 2 0 0 amTmin := by
  intro cc nL p e s m args below meth c Q pc ls as st h k z K hC hnm hd hT hn hcat hk hz kk H locs lsv hR hS hL
  obtain ⟨hx, hb, hml, hown, hts, hK, hb0⟩ := hC
  match as, hT with
  | [.int x, .int y], hT =>
  have hs1 : lsv.size = nL := hL.2.1
  refine va_mmin hx hb (by rw [hml]; exact hs1.symm) hown (hts _ hl) (hts _ q677) (hts _ q98) (hts _ amMinCode) (by rw [hRm]; exact hd1) (by rw [hRm]; show ((st.map (amV G)).map fun v => v.category).sum + 13 ≤ 12000 + 64 * dR; rw [amCats]; omega) hk hz hd ?_
  exact kk _ _ hT H locs lsv hR hS hL
