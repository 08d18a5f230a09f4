/-! the system's copy -/
set_option maxRecDepth 100000
def tX0_copy : amT := fun as h K => match as with
  | [.ref a, .int f0, .int i0, .int t0, .int j0, .int n0] => ∃ X : XS, a = (24 : Nat) ∧ RsW h X ∧ ∀ h', rsFr h h' → RsW h' (copyR X f0 i0 t0 j0 n0).1 → K (some (.int (copyR X f0 i0 t0 j0 n0).2)) h'
  | _ => False
/-- OPEN -/
theorem metX0_copy (l : Launch) (G : amG) (hl : l.stackTraces = false) : amMet l G yX0_copy (wsW_ yX0_copy cX0_copy 7 (some .int) [(18, 44, 47, 469), (18, 44, 52, 475), (18, 44, 57, 477)]) 10 3 400 tX0_copy := sorry
