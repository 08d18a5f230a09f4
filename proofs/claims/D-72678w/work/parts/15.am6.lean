/-! AM: that the computed conditions suffice -/
set_option maxRecDepth 100000
theorem amJ_ok {pc : Nat} {off : Int} {X : Nat → Prop} (h : amJ pc off X) : ∃ t : Nat, (pc : Int) + off = (t : Int) ∧ X t := by
  unfold amJ at h
  split at h
  · next t ht => exact ⟨t, ht, h⟩
  · exact h.elim
theorem amSw_ok {x : Int32} {pc : Nat} {X : Nat → Prop} {d : Int} : ∀ {cs : List (Int × Int)}, (∀ q ∈ cs, (Int32.ofInt q.1).toInt = q.1) → amSw x pc X d cs → ∃ t : Nat, (pc : Int) + Op.lookupswitch.offset cs d x.toInt = (t : Int) ∧ X t
  | [], _, h => by
    obtain ⟨t, h1, h2⟩ := amJ_ok h
    exact ⟨t, h1, h2⟩
  | (v, o) :: cs, hr, h => by
    have hv : (Int32.ofInt v).toInt = v := hr (v, o) List.mem_cons_self
    by_cases hx : x = Int32.ofInt v
    · obtain ⟨t, h1, h2⟩ := amJ_ok (h.1 hx)
      refine ⟨t, ?_, h2⟩
      rw [Op.lookupswitch.offset_cons, if_pos (by rw [hx]; exact hv.symm)]
      exact h1
    · obtain ⟨t, h1, h2⟩ := amSw_ok (fun q hq => hr q (List.mem_cons_of_mem _ hq)) (h.2 hx)
      refine ⟨t, ?_, h2⟩
      rw [lv_osw hx hv]
      exact h1
theorem amTab_in {x : Int32} : ∀ {os : List Int} {lo : Int}, (∀ q ∈ amTab lo os, (Int32.ofInt q.1).toInt = q.1) → ∀ {d : Int}, ¬ x.toInt < lo → x.toInt < lo + os.length → os[(x.toInt - lo).toNat]? = some (Op.lookupswitch.offset (amTab lo os) d x.toInt)
  | [], lo, _, d, h1, h2 => by simp at h2; omega
  | o :: os, lo, hr, d, h1, h2 => by
    have hv : (Int32.ofInt lo).toInt = lo := hr (lo, o) List.mem_cons_self
    by_cases hx : x.toInt = lo
    · rw [show (x.toInt - lo).toNat = 0 by omega]
      show some o = some (Op.lookupswitch.offset ((lo, o) :: amTab (lo + 1) os) d x.toInt)
      rw [Op.lookupswitch.offset_cons, if_pos hx.symm]
    · have h3 := amTab_in (x := x) (os := os) (lo := lo + 1) (fun q hq => hr q (List.mem_cons_of_mem _ hq)) (d := d) (by omega) (by simp at h2 ⊢; omega)
      rw [show (x.toInt - lo).toNat = (x.toInt - (lo + 1)).toNat + 1 by omega, List.getElem?_cons_succ, h3]
      show _ = some (Op.lookupswitch.offset ((lo, o) :: amTab (lo + 1) os) d x.toInt)
      rw [Op.lookupswitch.offset_cons, if_neg (fun q => hx q.symm)]
theorem amTab_out {x : Int32} {d : Int} : ∀ {os : List Int} {lo : Int}, (x.toInt < lo ∨ lo + os.length ≤ x.toInt) → Op.lookupswitch.offset (amTab lo os) d x.toInt = d
  | [], lo, _ => rfl
  | o :: os, lo, h => by
    simp only [List.length_cons] at h
    show Op.lookupswitch.offset ((lo, o) :: amTab (lo + 1) os) d x.toInt = d
    rw [Op.lookupswitch.offset_cons, if_neg (by omega)]
    exact amTab_out (by omega)
theorem amP1_ok {st : List Value} {f : Int32 → List Value → Prop} (h : amP1 st f) : ∃ a r, st = .int a :: r ∧ f a r := by
  unfold amP1 at h
  split at h
  · exact ⟨_, _, rfl, h⟩
  · exact h.elim
theorem amP2_ok {st : List Value} {f : Int32 → Int32 → List Value → Prop} (h : amP2 st f) : ∃ a b r, st = .int b :: .int a :: r ∧ f a b r := by
  unfold amP2 at h
  split at h
  · exact ⟨_, _, _, rfl, h⟩
  · exact h.elim
theorem amL1_ok {st : List Value} {f : Int64 → List Value → Prop} (h : amL1 st f) : ∃ a r, st = .long a :: r ∧ f a r := by
  unfold amL1 at h
  split at h
  · exact ⟨_, _, rfl, h⟩
  · exact h.elim
theorem amL2_ok {st : List Value} {f : Int64 → Int64 → List Value → Prop} (h : amL2 st f) : ∃ a b r, st = .long b :: .long a :: r ∧ f a b r := by
  unfold amL2 at h
  split at h
  · exact ⟨_, _, _, rfl, h⟩
  · exact h.elim
theorem amA1_ok {st : List Value} {f : Int32 → Nat → List Value → Prop} (h : amA1 st f) : ∃ i a r, st = .int i :: .ref a :: r ∧ f i a r := by
  unfold amA1 at h
  split at h
  · exact ⟨_, _, _, rfl, h⟩
  · exact h.elim
theorem amLdI_ok {ls : List Value} {i : Nat} {f : Int32 → Prop} (h : amLdI ls i f) : ∃ x, ls[i]? = some (.int x) ∧ f x := by
  unfold amLdI at h
  split at h
  · next x hx => exact ⟨x, hx, h⟩
  · exact h.elim
theorem amLdL_ok {ls : List Value} {i : Nat} {f : Int64 → Prop} (h : amLdL ls i f) : ∃ x, ls[i]? = some (.long x) ∧ f x := by
  unfold amLdL at h
  split at h
  · next x hx => exact ⟨x, hx, h⟩
  · exact h.elim
theorem amLdA_ok {ls : List Value} {i : Nat} {f : Value → Prop} (h : amLdA ls i f) : ∃ x, ls[i]? = some x ∧ amIsR x ∧ f x := by
  unfold amLdA at h
  split at h
  · next x hx => exact ⟨x, hx, h.1, h.2⟩
  · exact h.elim
theorem amCat2 : ∀ st : List Value, (st.map fun v => v.category).sum ≤ 2 * st.length
  | [] => Nat.le_refl _
  | v :: t => by
    have h1 := amCat2 t
    have h2 : v.category ≤ 2 := by rcases lv_cat v with e | e <;> omega
    simp only [List.map_cons, List.sum_cons, List.length_cons]
    omega
theorem amNe {a b : Int32} (h : ¬ ¬ a = b) : a = b := Classical.byContradiction h
section AMOK
variable {G : amG} {own : String} {cc : ByteArray} {nL : Nat} {p : Program} {l : Launch} {e : Env} {R : Room} {s : State} {m : MethodId} {args : Array Value} {below : List Frame} {meth : Method} {c : Code} {Q : State → Prop}
variable {pc : Nat} {ls st : List Value} {h : amH} {k z : Nat}
theorem am_newarray {t : ArrayType} {n : Int32} (hC : amC G own cc nL p s m args c) (hd : decode cc pc = .ok (.newarray t, 2)) (h1 : 1 ≤ amAk t) (hn : ¬ n < 0) (hb8 : n.toNatClampNeg ≤ 67108864) (hk1 : k + 1 ≤ R.cells) (hz1 : z + n.toNatClampNeg ≤ R.slots)
    (hk : amF G p l e R s m args below meth c nL Q (pc + 2) ls (.ref h.2.2.2.2 :: st) (amNew h (amAk t, n.toNatClampNeg)) (k + 1) (z + n.toNatClampNeg)) : amF G p l e R s m args below meth c nL Q pc ls (.int n :: st) h k z := by
  intro H locs lsv hR hS hL
  obtain ⟨hx, hb, hml, hown, hts, hK, hb0⟩ := hC
  have hcls : (Cond.arrayClass (Op.newarray.typeOf t)).before args s = true ∧ Op.newarray.typeOf t = amKt (amAk t) ∧ componentBytes (Op.newarray.typeOf t) ≤ 8 ∧ amAk t ≤ 5 ∧ defaultValue (amKt (amAk t)) = amV G (match amMk (amKt (amAk t)) with | 1 => .long 0 | 2 => .null | _ => .int 0) ∧ (amMk (amKt (amAk t)) = 0 → fits (amKt (amAk t)) (.int 0) = true) := by
    cases t with
    | int => exact ⟨hts _ q144, rfl, by decide, by decide, rfl, fun _ => rfl⟩
    | byte => exact ⟨hts _ q145, rfl, by decide, by decide, rfl, fun _ => rfl⟩
    | char => exact ⟨hts _ q279, rfl, by decide, by decide, rfl, fun _ => rfl⟩
    | short => exact ⟨hts _ q1208, rfl, by decide, by decide, rfl, fun _ => rfl⟩
    | long => exact ⟨hts _ q1209, rfl, by decide, by decide, rfl, fun h => absurd h (by decide)⟩
    | boolean => exact absurd h1 (by decide)
    | float => exact absurd h1 (by decide)
    | double => exact absurd h1 (by decide)
  obtain ⟨c1, c2, c3, c4, c5, c6⟩ := hcls
  refine va_newaK hx hb c1 rfl hd rfl hn rfl (Nat.le_trans (Nat.mul_le_mul_left _ c3) (by omega)) hk1 hz1 rfl fun H1 cA e1 z1 o1 hAr hNm => ?_
  have hcA : cA = G.2.1 (amAk t) := by
    have := (amArrT hK (k := amAk t) h1 (by omega)).2
    rw [c2] at hNm
    have h3 : s.vm.findClass ("[" ++ (amKt (amAk t)).toString) = some (G.2.1 (amAk t)) := by
      cases t <;> first | exact this | exact absurd h1 (by decide)
    exact Option.some.inj (hNm.symm.trans h3)
  subst hcA
  rw [c2] at e1
  have het : ∀ j, amEt (amAk t) j = amKt (amAk t) := fun j => by unfold amEt; rw [if_pos (by omega)]
  have hrd : ∀ j, amRd (amKt (amAk t)) (amNew h (amAk t, n.toNatClampNeg)) h.2.2.2.2 j = (match amMk (amKt (amAk t)) with | 1 => .long 0 | 2 => .null | _ => .int 0) := by
    intro j
    unfold amRd
    simp only [amNew, va_up, if_pos]
    rfl
  have hR' := hR.push (H' := H1) (sh := (amAk t, n.toNatClampNeg)) z1 (fun q hq => o1 q hq) (by
    have hsh : (amNew h (amAk t, n.toNatClampNeg)).1 h.2.2.2.2 = (amAk t, n.toNatClampNeg) := by simp [amNew, va_up]
    refine ⟨fun q => ?_, fun _ _ => ?_⟩
    · rw [hsh] at q
      exact absurd q (by show ¬ amAk t = 0; omega)
    · rw [hsh]
      refine ⟨?_, fun j _ hm => ?_⟩
      · refine amAV.of ?_
        rw [hR.ad, e1]
        congr 2
        funext j
        rw [het, hrd]
        exact c5
      · rw [het] at hm ⊢
        simp only [amNew, va_up, if_pos]
        exact c6 hm)
  have := hk H1 locs lsv hR' ⟨Nat.le_trans hS.1 (by omega), fun x h1 h2 => (o1 x (Nat.lt_of_lt_of_le h1 hS.1)).trans (hS.2.1 x h1 h2), hS.2.2⟩ hL
  have e9 : (Value.ref h.2.2.2.2 :: st).map (amV G) = .ref H.size :: st.map (amV G) := by simp [amV, hR.ad]
  rw [e9] at this
  exact this
theorem am_istore {i : Nat} {x : Int32} (hC : amC G own cc nL p s m args c) (n : Nat) (hrow : ∀ {H : Heap} {locs : List Loc} {lsv : Array Slot} {lv lv' : List (Nat × Value)}, lv_has lsv nL lv → i < nL → (i, Value.int x) :: lv.filter (fun q => !(q.1 == i) && !(q.1 + 1 == i && q.2.category == 2)) = lv' → (∀ ls' : Array Slot, lv_has ls' nL lv' → W p l e R s m args below meth c H locs k z Q (F0 m (pc + n) ls' (st.map (amV G)))) → W p l e R s m args below meth c H locs k z Q (F0 m pc lsv (.int x :: st.map (amV G))))
    (hi : i < ls.length) (hk : amF G p l e R s m args below meth c nL Q (pc + n) (amSet ls i (.int x)) st h k z) : amF G p l e R s m args below meth c nL Q pc ls (.int x :: st) h k z := by
  intro H locs lsv hR hS hL
  refine hrow hL.2 (by rw [← hL.1]; exact hi) rfl (fun ls' h' => ?_)
  exact hk H locs ls' hR hS (amL.set (v := .int x) hL.1 h')
theorem am_iinc {i : Nat} {n : Int} {x : Int32} (hC : amC G own cc nL p s m args c) (hd : decode cc pc = .ok (.iinc i n, 3)) (hi : ls[i]? = some (.int x)) (hk : amF G p l e R s m args below meth c nL Q (pc + 3) (amSet ls i (.int (x + Int32.ofInt n))) st h k z) : amF G p l e R s m args below meth c nL Q pc ls st h k z := by
  intro H locs lsv hR hS hL
  have hm : (i, Value.int x) ∈ amAs G ls := amAs_mem.mpr ⟨.int x, hi, rfl, rfl⟩
  obtain ⟨j, hj⟩ := List.getElem?_of_mem hm
  refine lv_iinc hC.1 hC.2.1 hd hL.2 hj rfl (by rw [← hL.1]; exact (List.getElem?_eq_some_iff.mp hi).1) rfl (fun ls' h' => ?_)
  exact hk H locs ls' hR hS (amL.set (v := .int (x + Int32.ofInt n)) hL.1 h')
theorem am_astore {i : Nat} {v : Value} (hv : amIsR v) (n : Nat) (hrow : ∀ {H : Heap} {locs : List Loc} {lsv : Array Slot} {x : Nat} {lv lv' : List (Nat × Value)}, lv_has lsv nL lv → i < nL → (i, Value.ref x) :: lv.filter (fun q => !(q.1 == i) && !(q.1 + 1 == i && q.2.category == 2)) = lv' → (∀ ls' : Array Slot, lv_has ls' nL lv' → W p l e R s m args below meth c H locs k z Q (F0 m (pc + n) ls' (st.map (amV G)))) → W p l e R s m args below meth c H locs k z Q (F0 m pc lsv (.ref x :: st.map (amV G))))
    (hrowN : ∀ {H : Heap} {locs : List Loc} {lsv : Array Slot} {lv lv' : List (Nat × Value)}, lv_has lsv nL lv → i < nL → (i, Value.null) :: lv.filter (fun q => !(q.1 == i) && !(q.1 + 1 == i && q.2.category == 2)) = lv' → (∀ ls' : Array Slot, lv_has ls' nL lv' → W p l e R s m args below meth c H locs k z Q (F0 m (pc + n) ls' (st.map (amV G)))) → W p l e R s m args below meth c H locs k z Q (F0 m pc lsv (.null :: st.map (amV G))))
    (hi : i < ls.length) (hk : amF G p l e R s m args below meth c nL Q (pc + n) (amSet ls i v) st h k z) : amF G p l e R s m args below meth c nL Q pc ls (v :: st) h k z := by
  intro H locs lsv hR hS hL
  rcases hv with rfl | ⟨a, rfl⟩
  · refine hrowN hL.2 (by rw [← hL.1]; exact hi) rfl (fun ls' h' => ?_)
    exact hk H locs ls' hR hS (amL.set (v := .null) hL.1 h')
  · refine hrow hL.2 (by rw [← hL.1]; exact hi) rfl (fun ls' h' => ?_)
    exact hk H locs ls' hR hS (amL.set (v := .ref a) hL.1 h')
set_option maxHeartbeats 4000000 in
theorem amStp_ok {rs : Nat → Option amS} {rt : Option FieldType} {ret : Option Value → amH → Nat → Nat → Prop} {X : amX} (hC : amC G own cc nL p s m args c) {Rc Rs : Nat} (hRc : Rc = R.cells) (hRs : Rs = R.slots)
    (hX : ∀ pc ls st h k z, X pc ls st h k z → amF G p l e R s m args below meth c nL Q pc ls st h k z)
    (hret : ∀ v h k z, ret v h k z → ∀ (H : Heap) (locs : List Loc) (lsv : Array Slot) (pc : Nat) (i : Instr), amRep G h H → va_S (amA G) s.heap H locs → decode cc pc = .ok (i, 1) → ((∃ x ty, i = .ireturn ∧ v = some (.int x) ∧ rt = some ty ∧ narrow ty (.int x) = .int x) ∨ (∃ x, i = .lreturn ∧ v = some (.long x) ∧ rt = some .long) ∨ (∃ x ty, i = .areturn ∧ v = some x ∧ amIsR x ∧ rt = some ty ∧ amMk ty = 2) ∨ (i = .return_ ∧ v = none ∧ rt = none)) → W p l e R s m args below meth c H locs k z Q (F0 m pc lsv (v.toList.map (amV G))))
    {i : Instr} {sz : Nat} (hd : decode cc pc = .ok (i, sz)) (hz : amSz i sz = true) {nm ds : String} (hnm : meth.name = nm ∧ s.methodNamed? ⟨own, nm, ds⟩ = some m) (hsite : ∀ S, rs pc = some S → amSiteP pc G l own nm ds R i sz S.1 S.2.1 S.2.2.1 S.2.2.2) (hs : amStp rs rt Rc Rs ret X i sz pc ls st h k z) : amF G p l e R s m args below meth c nL Q pc ls st h k z := by
  have hx := hC.1
  have hb := hC.2.1
  subst hRc; subst hRs
  cases i with
  | aconst_null =>
    obtain rfl : sz = 1 := by simpa [amSz] using hz
    exact (hX _ _ _ _ _ _ hs).by fun H locs lsv w => lv_null hx hb hd w
  | iconst n =>
    obtain rfl : sz = 1 := by simpa [amSz] using hz
    exact (hX _ _ _ _ _ _ hs).by fun H locs lsv w => lv_iconst hx hb hd rfl w
  | bipush n =>
    obtain rfl : sz = 2 := by simpa [amSz] using hz
    exact (hX _ _ _ _ _ _ hs).by fun H locs lsv w => lv_bipush hx hb hd rfl w
  | sipush n =>
    obtain rfl : sz = 3 := by simpa [amSz] using hz
    exact (hX _ _ _ _ _ _ hs).by fun H locs lsv w => lv_sipush hx hb hd rfl w
  | lconst n =>
    obtain rfl : sz = 1 := by simpa [amSz] using hz
    exact (hX _ _ _ _ _ _ hs).by fun H locs lsv w => lv_lconst hx hb hd rfl w
  | iload_n i =>
    obtain rfl : sz = 1 := by simpa [amSz] using hz
    obtain ⟨x, h1, h2⟩ := amLdI_ok hs
    intro H locs lsv hR hS hL
    exact lv_iload_n hx hb hd rfl (hL.at h1 rfl) (hX _ _ _ _ _ _ h2 H locs lsv hR hS hL)
  | iload i =>
    obtain rfl : sz = 2 := by simpa [amSz] using hz
    obtain ⟨x, h1, h2⟩ := amLdI_ok hs
    intro H locs lsv hR hS hL
    exact lv_iload hx hb hd (hL.at h1 rfl) (hX _ _ _ _ _ _ h2 H locs lsv hR hS hL)
  | lload_n i =>
    obtain rfl : sz = 1 := by simpa [amSz] using hz
    obtain ⟨x, h1, h2⟩ := amLdL_ok hs
    intro H locs lsv hR hS hL
    exact lv_lload_n hx hb hd rfl (hL.at h1 rfl) (hX _ _ _ _ _ _ h2 H locs lsv hR hS hL)
  | lload i =>
    obtain rfl : sz = 2 := by simpa [amSz] using hz
    obtain ⟨x, h1, h2⟩ := amLdL_ok hs
    intro H locs lsv hR hS hL
    exact lv_lload hx hb hd (hL.at h1 rfl) (hX _ _ _ _ _ _ h2 H locs lsv hR hS hL)
  | aload_n i =>
    obtain rfl : sz = 1 := by simpa [amSz] using hz
    obtain ⟨x, h1, hr, h2⟩ := amLdA_ok hs
    intro H locs lsv hR hS hL
    rcases hr with rfl | ⟨a, rfl⟩
    · exact lv_aload_nN hx hb hd rfl (hL.at h1 rfl) (hX _ _ _ _ _ _ h2 H locs lsv hR hS hL)
    · exact lv_aload_n hx hb hd rfl (hL.at h1 rfl) (hX _ _ _ _ _ _ h2 H locs lsv hR hS hL)
  | aload i =>
    obtain rfl : sz = 2 := by simpa [amSz] using hz
    obtain ⟨x, h1, hr, h2⟩ := amLdA_ok hs
    intro H locs lsv hR hS hL
    rcases hr with rfl | ⟨a, rfl⟩
    · exact lv_aloadN hx hb hd (hL.at h1 rfl) (hX _ _ _ _ _ _ h2 H locs lsv hR hS hL)
    · exact lv_aload hx hb hd (hL.at h1 rfl) (hX _ _ _ _ _ _ h2 H locs lsv hR hS hL)
  | istore_n i =>
    obtain rfl : sz = 1 := by simpa [amSz] using hz
    obtain ⟨x, r, rfl, h1, h2⟩ := amP1_ok hs
    exact am_istore hC 1 (fun a b d f => lv_istore_n hx hb hd rfl a b d f) h1 (hX _ _ _ _ _ _ h2)
  | istore i =>
    obtain rfl : sz = 2 := by simpa [amSz] using hz
    obtain ⟨x, r, rfl, h1, h2⟩ := amP1_ok hs
    exact am_istore hC 2 (fun a b d f => lv_istore hx hb hd a b d f) h1 (hX _ _ _ _ _ _ h2)
  | astore_n i =>
    obtain rfl : sz = 1 := by simpa [amSz] using hz
    cases st with
    | nil => exact hs.elim
    | cons v r =>
      obtain ⟨h0, h1, h2⟩ := hs
      exact am_astore h0 1 (fun a b d f => lv_astore_n hx hb hd rfl a b d f) (fun a b d f => lv_astore_nN hx hb hd rfl a b d f) h1 (hX _ _ _ _ _ _ h2)
  | astore i =>
    obtain rfl : sz = 2 := by simpa [amSz] using hz
    cases st with
    | nil => exact hs.elim
    | cons v r =>
      obtain ⟨h0, h1, h2⟩ := hs
      exact am_astore h0 2 (fun a b d f => lv_astore hx hb hd a b d f) (fun a b d f => lv_astoreN hx hb hd a b d f) h1 (hX _ _ _ _ _ _ h2)
  | iinc i n =>
    obtain rfl : sz = 3 := by simpa [amSz] using hz
    obtain ⟨x, h1, h2⟩ := amLdI_ok hs
    exact am_iinc hC hd h1 (hX _ _ _ _ _ _ h2)
  | dup =>
    obtain rfl : sz = 1 := by simpa [amSz] using hz
    cases st with
    | nil => exact hs.elim
    | cons v r => exact (hX _ _ _ _ _ _ hs.2).by fun H locs lsv w => lv_dup hx hb hd (by rw [amV_cat]; exact hs.1) w
  | dup_x1 =>
    obtain rfl : sz = 1 := by simpa [amSz] using hz
    cases st with
    | nil => exact hs.elim
    | cons v r =>
      cases r with
      | nil => exact hs.elim
      | cons w r => exact (hX _ _ _ _ _ _ hs.2.2).by fun H locs lsv w => lv_dup_x1 hx hb hd (by rw [amV_cat]; exact hs.1) (by rw [amV_cat]; exact hs.2.1) w
  | dup2 =>
    obtain rfl : sz = 1 := by simpa [amSz] using hz
    cases st with
    | nil => exact hs.elim
    | cons v r =>
      cases r with
      | nil => exact hs.elim
      | cons w r => exact (hX _ _ _ _ _ _ hs.2.2).by fun H locs lsv w => lv_dup2_11 hx hb hd (by rw [amV_cat]; exact hs.1) (by rw [amV_cat]; exact hs.2.1) w
  | pop =>
    obtain rfl : sz = 1 := by simpa [amSz] using hz
    cases st with
    | nil => exact hs.elim
    | cons v r => exact (hX _ _ _ _ _ _ hs.2).by fun H locs lsv w => lv_pop hx hb hd (by rw [amV_cat]; exact hs.1) w
  | iadd =>
    obtain rfl : sz = 1 := by simpa [amSz] using hz
    obtain ⟨a, b, r, rfl, h1⟩ := amP2_ok hs
    exact (hX _ _ _ _ _ _ h1).by fun H locs lsv w => lv_iadd hx hb hd w
  | isub =>
    obtain rfl : sz = 1 := by simpa [amSz] using hz
    obtain ⟨a, b, r, rfl, h1⟩ := amP2_ok hs
    exact (hX _ _ _ _ _ _ h1).by fun H locs lsv w => lv_isub hx hb hd w
  | imul =>
    obtain rfl : sz = 1 := by simpa [amSz] using hz
    obtain ⟨a, b, r, rfl, h1⟩ := amP2_ok hs
    exact (hX _ _ _ _ _ _ h1).by fun H locs lsv w => lv_imul hx hb hd w
  | iand =>
    obtain rfl : sz = 1 := by simpa [amSz] using hz
    obtain ⟨a, b, r, rfl, h1⟩ := amP2_ok hs
    exact (hX _ _ _ _ _ _ h1).by fun H locs lsv w => lv_iand hx hb hd w
  | ior =>
    obtain rfl : sz = 1 := by simpa [amSz] using hz
    obtain ⟨a, b, r, rfl, h1⟩ := amP2_ok hs
    exact (hX _ _ _ _ _ _ h1).by fun H locs lsv w => lv_ior hx hb hd w
  | ixor =>
    obtain rfl : sz = 1 := by simpa [amSz] using hz
    obtain ⟨a, b, r, rfl, h1⟩ := amP2_ok hs
    exact (hX _ _ _ _ _ _ h1).by fun H locs lsv w => lv_ixor hx hb hd w
  | ishl =>
    obtain rfl : sz = 1 := by simpa [amSz] using hz
    obtain ⟨a, b, r, rfl, h1⟩ := amP2_ok hs
    exact (hX _ _ _ _ _ _ h1).by fun H locs lsv w => lv_ishl hx hb hd w
  | ishr =>
    obtain rfl : sz = 1 := by simpa [amSz] using hz
    obtain ⟨a, b, r, rfl, h1⟩ := amP2_ok hs
    exact (hX _ _ _ _ _ _ h1).by fun H locs lsv w => lv_ishr hx hb hd w
  | iushr =>
    obtain rfl : sz = 1 := by simpa [amSz] using hz
    obtain ⟨a, b, r, rfl, h1⟩ := amP2_ok hs
    exact (hX _ _ _ _ _ _ h1).by fun H locs lsv w => lv_iushr hx hb hd rfl w
  | idiv =>
    obtain rfl : sz = 1 := by simpa [amSz] using hz
    obtain ⟨a, b, r, rfl, h0, h1⟩ := amP2_ok hs
    exact (hX _ _ _ _ _ _ h1).by fun H locs lsv w => lv_idiv hx hb hd h0 w
  | irem =>
    obtain rfl : sz = 1 := by simpa [amSz] using hz
    obtain ⟨a, b, r, rfl, h0, h1⟩ := amP2_ok hs
    exact (hX _ _ _ _ _ _ h1).by fun H locs lsv w => lv_irem hx hb hd h0 w
  | ineg =>
    obtain rfl : sz = 1 := by simpa [amSz] using hz
    obtain ⟨a, r, rfl, h1⟩ := amP1_ok hs
    exact (hX _ _ _ _ _ _ h1).by fun H locs lsv w => lv_ineg hx hb hd w
  | ladd =>
    obtain rfl : sz = 1 := by simpa [amSz] using hz
    obtain ⟨a, b, r, rfl, h1⟩ := amL2_ok hs
    exact (hX _ _ _ _ _ _ h1).by fun H locs lsv w => lv_ladd hx hb hd w
  | lmul =>
    obtain rfl : sz = 1 := by simpa [amSz] using hz
    obtain ⟨a, b, r, rfl, h1⟩ := amL2_ok hs
    exact (hX _ _ _ _ _ _ h1).by fun H locs lsv w => lv_lmul hx hb hd w
  | land =>
    obtain rfl : sz = 1 := by simpa [amSz] using hz
    obtain ⟨a, b, r, rfl, h1⟩ := amL2_ok hs
    exact (hX _ _ _ _ _ _ h1).by fun H locs lsv w => lv_land hx hb hd w
  | lor =>
    obtain rfl : sz = 1 := by simpa [amSz] using hz
    obtain ⟨a, b, r, rfl, h1⟩ := amL2_ok hs
    exact (hX _ _ _ _ _ _ h1).by fun H locs lsv w => lv_lor hx hb hd w
  | lshl =>
    obtain rfl : sz = 1 := by simpa [amSz] using hz
    simp only [amStp] at hs
    split at hs
    · exact (hX _ _ _ _ _ _ hs).by fun H locs lsv w => lv_lshl hx hb hd rfl w
    · exact hs.elim
  | lcmp =>
    obtain rfl : sz = 1 := by simpa [amSz] using hz
    obtain ⟨a, b, r, rfl, h1⟩ := amL2_ok hs
    exact (hX _ _ _ _ _ _ h1).by fun H locs lsv w => W.lcmp hx hb hd w
  | i2l =>
    obtain rfl : sz = 1 := by simpa [amSz] using hz
    obtain ⟨a, r, rfl, h1⟩ := amP1_ok hs
    exact (hX _ _ _ _ _ _ h1).by fun H locs lsv w => lv_i2l hx hb hd rfl w
  | i2b =>
    obtain rfl : sz = 1 := by simpa [amSz] using hz
    obtain ⟨a, r, rfl, h1⟩ := amP1_ok hs
    exact (hX _ _ _ _ _ _ h1).by fun H locs lsv w => lv_i2b hx hb hd rfl w
  | i2c =>
    obtain rfl : sz = 1 := by simpa [amSz] using hz
    obtain ⟨a, r, rfl, h1⟩ := amP1_ok hs
    exact (hX _ _ _ _ _ _ h1).by fun H locs lsv w => lv_i2c hx hb hd rfl w
  | i2s =>
    obtain rfl : sz = 1 := by simpa [amSz] using hz
    obtain ⟨a, r, rfl, h1⟩ := amP1_ok hs
    exact (hX _ _ _ _ _ _ h1).by fun H locs lsv w => lv_i2s hx hb hd rfl w
  | l2i =>
    obtain rfl : sz = 1 := by simpa [amSz] using hz
    obtain ⟨a, r, rfl, h1⟩ := amL1_ok hs
    exact (hX _ _ _ _ _ _ h1).by fun H locs lsv w => lv_l2i hx hb hd rfl w
  | goto off =>
    obtain rfl : sz = 3 := by simpa [amSz] using hz
    obtain ⟨t, h1, h2⟩ := amJ_ok hs
    exact (hX _ _ _ _ _ _ h2).by fun H locs lsv w => lv_goto hx hb hd h1 w
  | ifCond cnd off =>
    obtain rfl : sz = 3 := by simpa [amSz] using hz
    obtain ⟨t, y1, hs⟩ := amJ_ok hs
    obtain ⟨a, r, rfl, h1⟩ := amP1_ok hs
    intro H locs lsv hR hS hL
    cases cnd with
    | eq => exact lv_if_eq hx hb hd y1 (fun n => hX _ _ _ _ _ _ (h1.1 n) H locs lsv hR hS hL) (fun n => hX _ _ _ _ _ _ (h1.2 n) H locs lsv hR hS hL)
    | ne => exact lv_if_ne hx hb hd y1 (fun n => hX _ _ _ _ _ _ (h1.1 n) H locs lsv hR hS hL) (fun n => hX _ _ _ _ _ _ (h1.2 n) H locs lsv hR hS hL)
    | lt => exact lv_if_lt hx hb hd y1 (fun n => hX _ _ _ _ _ _ (h1.1 n) H locs lsv hR hS hL) (fun n => hX _ _ _ _ _ _ (h1.2 n) H locs lsv hR hS hL)
    | ge => exact lv_if_ge hx hb hd y1 (fun n => hX _ _ _ _ _ _ (h1.1 n) H locs lsv hR hS hL) (fun n => hX _ _ _ _ _ _ (h1.2 n) H locs lsv hR hS hL)
    | gt => exact lv_if_gt hx hb hd y1 (fun n => hX _ _ _ _ _ _ (h1.1 n) H locs lsv hR hS hL) (fun n => hX _ _ _ _ _ _ (h1.2 n) H locs lsv hR hS hL)
    | le => exact lv_if_le hx hb hd y1 (fun n => hX _ _ _ _ _ _ (h1.1 n) H locs lsv hR hS hL) (fun n => hX _ _ _ _ _ _ (h1.2 n) H locs lsv hR hS hL)
  | if_icmp cnd off =>
    obtain rfl : sz = 3 := by simpa [amSz] using hz
    obtain ⟨t, y1, hs⟩ := amJ_ok hs
    obtain ⟨a, b, r, rfl, h1⟩ := amP2_ok hs
    intro H locs lsv hR hS hL
    cases cnd with
    | eq => exact lv_icmp_eq hx hb hd y1 (fun n => hX _ _ _ _ _ _ (h1.1 n) H locs lsv hR hS hL) (fun n => hX _ _ _ _ _ _ (h1.2 n) H locs lsv hR hS hL)
    | ne => exact lv_icmp_ne hx hb hd y1 (fun n => hX _ _ _ _ _ _ (h1.1 n) H locs lsv hR hS hL) (fun n => hX _ _ _ _ _ _ (h1.2 n) H locs lsv hR hS hL)
    | lt => exact lv_icmp_lt hx hb hd y1 (fun n => hX _ _ _ _ _ _ (h1.1 n) H locs lsv hR hS hL) (fun n => hX _ _ _ _ _ _ (h1.2 n) H locs lsv hR hS hL)
    | ge => exact lv_icmp_ge hx hb hd y1 (fun n => hX _ _ _ _ _ _ (h1.1 n) H locs lsv hR hS hL) (fun n => hX _ _ _ _ _ _ (h1.2 n) H locs lsv hR hS hL)
    | gt => exact lv_icmp_gt hx hb hd y1 (fun n => hX _ _ _ _ _ _ (h1.1 n) H locs lsv hR hS hL) (fun n => hX _ _ _ _ _ _ (h1.2 n) H locs lsv hR hS hL)
    | le => exact lv_icmp_le hx hb hd y1 (fun n => hX _ _ _ _ _ _ (h1.1 n) H locs lsv hR hS hL) (fun n => hX _ _ _ _ _ _ (h1.2 n) H locs lsv hR hS hL)
  | ifnull off =>
    obtain rfl : sz = 3 := by simpa [amSz] using hz
    simp only [amStp] at hs
    split at hs
    · obtain ⟨t, y1, y2⟩ := amJ_ok hs
      exact (hX _ _ _ _ _ _ y2).by fun H locs lsv w => lv_ifnullN hx hb hd y1 w
    · exact (hX _ _ _ _ _ _ hs).by fun H locs lsv w => lv_ifnull hx hb hd w
    · exact hs.elim
  | ifnonnull off =>
    obtain rfl : sz = 3 := by simpa [amSz] using hz
    simp only [amStp] at hs
    split at hs
    · obtain ⟨t, y1, y2⟩ := amJ_ok hs
      exact (hX _ _ _ _ _ _ y2).by fun H locs lsv w => lv_ifnonnull hx hb hd y1 w
    · exact (hX _ _ _ _ _ _ hs).by fun H locs lsv w => lv_ifnonnullN hx hb hd w
    · exact hs.elim
  | if_acmp cnd off =>
    obtain rfl : sz = 3 := by simpa [amSz] using hz
    simp only [amStp] at hs
    split at hs
    · next b a r =>
      obtain ⟨⟨g1, g2⟩, g3⟩ := hs
      obtain ⟨t, y1, y2⟩ := amJ_ok g3
      intro H locs lsv hR hS hL
      have hne := amAd_ne hR g1 g2
      exact lv_acmp_ne (rx := some (amAd G a)) (ry := some (amAd G b)) (rest := r.map (amV G)) hx hb hd y1 (fun _ => hX _ _ _ _ _ _ y2 H locs lsv hR hS hL) (fun e => absurd (Option.some.inj e).symm hne)
    · exact hs.elim
  | lookupswitch d ps =>
    obtain ⟨x, r, rfl, h0, h1, h2⟩ := amP1_ok hs
    obtain ⟨t, y1, y2⟩ := amSw_ok h1 h2
    exact (hX _ _ _ _ _ _ y2).by fun H locs lsv w => lv_lookup hx hb hd h0 rfl y1 w
  | tableswitch d lo hi offs =>
    obtain ⟨x, r, rfl, h0, h1, h2⟩ := amP1_ok hs
    obtain ⟨t, y1, y2⟩ := amSw_ok h1 h2
    have hlen : (offs.toList.length : Int) = offs.size := by simp
    by_cases hin : x.toInt < lo ∨ hi < x.toInt
    · rw [amTab_out (by omega)] at y1
      exact (hX _ _ _ _ _ _ y2).by fun H locs lsv w => lv_tableOut hx hb hd hin y1 w
    · have ho := amTab_in (x := x) h1 (d := d) (by omega) (by omega)
      exact (hX _ _ _ _ _ _ y2).by fun H locs lsv w => lv_tableIn hx hb hd (by omega) (by omega) (by simpa using ho) y1 w
  | arraylength =>
    obtain rfl : sz = 1 := by simpa [amSz] using hz
    simp only [amStp] at hs
    split at hs
    · obtain ⟨h1, h2, h3⟩ := hs
      exact am_arraylength hC hd rfl h1 h2 (hX _ _ _ _ _ _ h3)
    · exact hs.elim
  | iaload =>
    obtain rfl : sz = 1 := by simpa [amSz] using hz
    obtain ⟨i, a, r, rfl, h1, h2, h3⟩ := amA1_ok hs
    exact am_iaload hC hd (Prod.ext h1 rfl) h2 (hX _ _ _ _ _ _ h3)
  | baload =>
    obtain rfl : sz = 1 := by simpa [amSz] using hz
    obtain ⟨i, a, r, rfl, h1, h2, h3⟩ := amA1_ok hs
    exact am_baload hC hd (Prod.ext h1 rfl) h2 (hX _ _ _ _ _ _ h3)
  | caload =>
    obtain rfl : sz = 1 := by simpa [amSz] using hz
    obtain ⟨i, a, r, rfl, h1, h2, h3⟩ := amA1_ok hs
    exact am_caload hC hd (Prod.ext h1 rfl) h2 (hX _ _ _ _ _ _ h3)
  | saload =>
    obtain rfl : sz = 1 := by simpa [amSz] using hz
    obtain ⟨i, a, r, rfl, h1, h2, h3⟩ := amA1_ok hs
    exact am_saload hC hd (Prod.ext h1 rfl) h2 (hX _ _ _ _ _ _ h3)
  | laload =>
    obtain rfl : sz = 1 := by simpa [amSz] using hz
    obtain ⟨i, a, r, rfl, h1, h2, h3⟩ := amA1_ok hs
    exact am_laload hC hd (Prod.ext h1 rfl) h2 (hX _ _ _ _ _ _ h3)
  | aaload =>
    obtain rfl : sz = 1 := by simpa [amSz] using hz
    obtain ⟨i, a, r, rfl, h1, h2, h3, h4⟩ := amA1_ok hs
    exact am_aaload hC hd rfl h1 h2 h3 (hX _ _ _ _ _ _ h4)
  | iastore =>
    obtain rfl : sz = 1 := by simpa [amSz] using hz
    simp only [amStp] at hs
    split at hs
    · obtain ⟨h1, h2, h3, h4⟩ := hs
      exact am_iastore hC hd (Prod.ext h1 rfl) h2 h3 (hX _ _ _ _ _ _ h4)
    · exact hs.elim
  | bastore =>
    obtain rfl : sz = 1 := by simpa [amSz] using hz
    simp only [amStp] at hs
    split at hs
    · obtain ⟨h1, h2, h3, h4⟩ := hs
      exact am_bastore hC hd (Prod.ext h1 rfl) h2 h3 (hX _ _ _ _ _ _ h4)
    · exact hs.elim
  | castore =>
    obtain rfl : sz = 1 := by simpa [amSz] using hz
    simp only [amStp] at hs
    split at hs
    · obtain ⟨h1, h2, h3, h4⟩ := hs
      exact am_castore hC hd (Prod.ext h1 rfl) h2 h3 (hX _ _ _ _ _ _ h4)
    · exact hs.elim
  | sastore =>
    obtain rfl : sz = 1 := by simpa [amSz] using hz
    simp only [amStp] at hs
    split at hs
    · obtain ⟨h1, h2, h3, h4⟩ := hs
      exact am_sastore hC hd (Prod.ext h1 rfl) h2 h3 (hX _ _ _ _ _ _ h4)
    · exact hs.elim
  | lastore =>
    obtain rfl : sz = 1 := by simpa [amSz] using hz
    simp only [amStp] at hs
    split at hs
    · obtain ⟨h1, h2, h3, h4⟩ := hs
      exact am_lastore hC hd (Prod.ext h1 rfl) h2 h3 (hX _ _ _ _ _ _ h4)
    · exact hs.elim
  | newarray t =>
    obtain rfl : sz = 2 := by simpa [amSz] using hz
    obtain ⟨n, r, rfl, h1, h2, h3, h4, h5, h6⟩ := amP1_ok hs
    exact am_newarray hC hd h1 h2 h3 h4 h5 (hX _ _ _ _ _ _ h6)
  | ireturn =>
    obtain rfl : sz = 1 := by simpa [amSz] using hz
    simp only [amStp] at hs
    split at hs
    · obtain ⟨⟨ty, h1, h2⟩, h3⟩ := hs
      intro H locs lsv hR hS hL
      exact hret _ _ _ _ h3 H locs lsv pc _ hR hS hd (Or.inl ⟨_, ty, rfl, rfl, h1, h2⟩)
    · exact hs.elim
  | lreturn =>
    obtain rfl : sz = 1 := by simpa [amSz] using hz
    simp only [amStp] at hs
    split at hs
    · intro H locs lsv hR hS hL
      exact hret _ _ _ _ hs.2 H locs lsv pc _ hR hS hd (Or.inr (Or.inl ⟨_, rfl, rfl, hs.1⟩))
    · exact hs.elim
  | areturn =>
    obtain rfl : sz = 1 := by simpa [amSz] using hz
    simp only [amStp] at hs
    split at hs
    · obtain ⟨⟨ty, h1, h2⟩, h3, h4⟩ := hs
      intro H locs lsv hR hS hL
      exact hret _ _ _ _ h4 H locs lsv pc _ hR hS hd (Or.inr (Or.inr (Or.inl ⟨_, ty, rfl, rfl, h3, h1, h2⟩)))
    · exact hs.elim
  | return_ =>
    obtain rfl : sz = 1 := by simpa [amSz] using hz
    simp only [amStp] at hs
    split at hs
    · intro H locs lsv hR hS hL
      exact hret _ _ _ _ hs.2 H locs lsv pc _ hR hS hd (Or.inr (Or.inr (Or.inr ⟨rfl, rfl, hs.1⟩)))
    · exact hs.elim
  | _ =>
    simp only [amStp] at hs
    split at hs
    · next n mc ms T hrs =>
      obtain ⟨h1, h2, h3, h4, h5⟩ := hs
      have := hsite _ hrs hC hnm hd h5 (by rw [List.length_reverse, List.length_take]; exact Nat.min_eq_left h1) (Nat.le_trans (amCat2 _) (by omega)) h3 h4 (fun v h' q => hX _ _ _ _ _ _ q)
      rw [List.reverse_reverse, List.take_append_drop] at this
      exact this
    · exact hs.elim
end AMOK
