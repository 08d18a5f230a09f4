/-! AM: a run closed under its conditions; a method's contract from its body; the sites of fields, constants, new, arraycopy -/
set_option maxRecDepth 100000
def amCld (cc : ByteArray) (cut : Nat → Bool) (rs : Nat → Option amS) (rt : Option FieldType) (Rc Rs : Nat) (ret : Option Value → amH → Nat → Nat → Prop) (F : amX) : Prop :=
  (∀ n pc ls st h k z, amWs cc cut rs rt Rc Rs ret F n pc ls st h k z → F pc ls st h k z) ∧ (∀ pc ls st h h' k z, amEq h h' → F pc ls st h' k z → F pc ls st h k z) ∧ ∀ pc ls st h k z k' z', k ≤ k' → z ≤ z' → F pc ls st h k' z' → F pc ls st h k z
/-- what may come at the end: within the room, the answer and a heap that says the same -/
def amRet (mc ms : Nat) (K : Option Value → amH → Prop) : Option Value → amH → Nat → Nat → Prop := fun v h k z => k ≤ mc ∧ z ≤ ms ∧ ∃ h', amEq h h' ∧ K v h'
theorem amEq.rf {h : amH} : amEq h h := ⟨rfl, rfl, fun _ _ _ => ⟨rfl, rfl, rfl⟩⟩
theorem amRet.of {mc ms : Nat} {K : Option Value → amH → Prop} {v : Option Value} {h : amH} {k z : Nat} (h1 : k ≤ mc) (h2 : z ≤ ms) (h3 : K v h) : amRet mc ms K v h k z := ⟨h1, h2, h, amEq.rf, h3⟩
theorem amRet.to {mc ms : Nat} {K : Option Value → amH → Prop} {v : Option Value} {h : amH} {k z : Nat} (h' : amH) (h1 : k ≤ mc) (h2 : z ≤ ms) (he : amEq h h') (h3 : K v h') : amRet mc ms K v h k z := ⟨h1, h2, h', he, h3⟩
section AMW
variable {G : amG} {own : String} {cc : ByteArray} {nL : Nat} {p : Program} {l : Launch} {e : Env} {R : Room} {s : State} {m : MethodId} {args : Array Value} {below : List Frame} {meth : Method} {c : Code} {Q : State → Prop}
theorem amWd_ok {rs : Nat → Option amS} {rt : Option FieldType} {ret : Option Value → amH → Nat → Nat → Prop} {X : amX} (hC : amC G own cc nL p s m args c)
    (hX : ∀ pc ls st h k z, X pc ls st h k z → amF G p l e R s m args below meth c nL Q pc ls st h k z)
    (hret : ∀ v h k z, ret v h k z → ∀ (H : Heap) (locs : List Loc) (lsv : Array Slot) (pc : Nat) (i : Instr), amRep G h H → va_S (amA G) s.heap H locs → decode cc pc = .ok (i, 1) → ((∃ x ty, i = .ireturn ∧ v = some (.int x) ∧ rt = some ty ∧ narrow ty (.int x) = .int x) ∨ (∃ x, i = .lreturn ∧ v = some (.long x) ∧ rt = some .long) ∨ (∃ x ty, i = .areturn ∧ v = some x ∧ amIsR x ∧ rt = some ty ∧ amMk ty = 2) ∨ (i = .return_ ∧ v = none ∧ rt = none)) → W p l e R s m args below meth c H locs k z Q (F0 m pc lsv (v.toList.map (amV G))))
    {nm ds : String} (hnm : meth.name = nm ∧ s.methodNamed? ⟨own, nm, ds⟩ = some m) (hsite : ∀ pc S i sz, rs pc = some S → decode cc pc = .ok (i, sz) → amSiteP pc G l own nm ds R i sz S.1 S.2.1 S.2.2.1 S.2.2.2)
    {pc : Nat} {ls st : List Value} {h : amH} {k z : Nat} (hs : amWd rs rt R.cells R.slots ret X (decode cc pc) pc ls st h k z) : amF G p l e R s m args below meth c nL Q pc ls st h k z := by
  unfold amWd at hs
  split at hs
  · next i sz hd =>
    by_cases hz : amSz i sz = true
    · rw [if_pos hz] at hs
      exact amStp_ok hC rfl rfl hX hret hd hz hnm (fun S q => hsite pc S i sz q hd) hs
    · rw [if_neg hz] at hs
      exact hs.elim
  · exact hs.elim
theorem amWp_ok {cut : Nat → Bool} {rs : Nat → Option amS} {rt : Option FieldType} {ret : Option Value → amH → Nat → Nat → Prop} (hC : amC G own cc nL p s m args c)
    (hret : ∀ v h k z, ret v h k z → ∀ (H : Heap) (locs : List Loc) (lsv : Array Slot) (pc : Nat) (i : Instr), amRep G h H → va_S (amA G) s.heap H locs → decode cc pc = .ok (i, 1) → ((∃ x ty, i = .ireturn ∧ v = some (.int x) ∧ rt = some ty ∧ narrow ty (.int x) = .int x) ∨ (∃ x, i = .lreturn ∧ v = some (.long x) ∧ rt = some .long) ∨ (∃ x ty, i = .areturn ∧ v = some x ∧ amIsR x ∧ rt = some ty ∧ amMk ty = 2) ∨ (i = .return_ ∧ v = none ∧ rt = none)) → W p l e R s m args below meth c H locs k z Q (F0 m pc lsv (v.toList.map (amV G))))
    {nm ds : String} (hnm : meth.name = nm ∧ s.methodNamed? ⟨own, nm, ds⟩ = some m) (hsite : ∀ pc S i sz, rs pc = some S → decode cc pc = .ok (i, sz) → amSiteP pc G l own nm ds R i sz S.1 S.2.1 S.2.2.1 S.2.2.2) :
    ∀ (n : Nat) (pc : Nat) (ls st : List Value) (h : amH) (k z : Nat), amWp cc cut rs rt R.cells R.slots ret (amF G p l e R s m args below meth c nL Q) n pc ls st h k z → amF G p l e R s m args below meth c nL Q pc ls st h k z
  | 0, _, _, _, _, _, _, hs => hs
  | n + 1, pc, ls, st, h, k, z, hs => by
    have hs : (if cut pc = true then amF G p l e R s m args below meth c nL Q pc ls st h k z else amWd rs rt R.cells R.slots ret (amWp cc cut rs rt R.cells R.slots ret (amF G p l e R s m args below meth c nL Q) n) (decode cc pc) pc ls st h k z) := hs
    by_cases hc : cut pc = true
    · rw [if_pos hc] at hs
      exact hs
    · rw [if_neg hc] at hs
      exact amWd_ok hC (fun pc ls st h k z q => amWp_ok hC hret hnm hsite n pc ls st h k z q) hret hnm hsite hs
theorem amCld_ok {cut : Nat → Bool} {rs : Nat → Option amS} {rt : Option FieldType} {ret : Option Value → amH → Nat → Nat → Prop} (hC : amC G own cc nL p s m args c)
    (hret : ∀ v h k z, ret v h k z → ∀ (H : Heap) (locs : List Loc) (lsv : Array Slot) (pc : Nat) (i : Instr), amRep G h H → va_S (amA G) s.heap H locs → decode cc pc = .ok (i, 1) → ((∃ x ty, i = .ireturn ∧ v = some (.int x) ∧ rt = some ty ∧ narrow ty (.int x) = .int x) ∨ (∃ x, i = .lreturn ∧ v = some (.long x) ∧ rt = some .long) ∨ (∃ x ty, i = .areturn ∧ v = some x ∧ amIsR x ∧ rt = some ty ∧ amMk ty = 2) ∨ (i = .return_ ∧ v = none ∧ rt = none)) → W p l e R s m args below meth c H locs k z Q (F0 m pc lsv (v.toList.map (amV G))))
    {nm ds : String} (hnm : meth.name = nm ∧ s.methodNamed? ⟨own, nm, ds⟩ = some m) (hsite : ∀ pc S i sz, rs pc = some S → decode cc pc = .ok (i, sz) → amSiteP pc G l own nm ds R i sz S.1 S.2.1 S.2.2.1 S.2.2.2) : amCld cc cut rs rt R.cells R.slots ret (amF G p l e R s m args below meth c nL Q) :=
  ⟨fun n _ _ _ _ _ _ hs => amWd_ok hC (fun pc ls st h k z q => amWp_ok hC hret hnm hsite n pc ls st h k z q) hret hnm hsite hs, fun _ _ _ _ _ _ _ he hk => hk.eq he, fun _ _ _ _ _ _ _ _ h1 h2 hk => hk.widen h1 h2⟩
end AMW
/-- the locals at a method's entry -/
def amEn0 : List Value → List Value
  | [] => []
  | v :: t => if v.category = 2 then v :: .retAddr 0 :: amEn0 t else v :: amEn0 t
def amEn (nL : Nat) (as : List Value) : List Value := amEn0 as ++ List.replicate (nL - (amEn0 as).length) (.retAddr 0)
theorem amEn0_len (G : amG) : ∀ as : List Value, (lg_sl (as.map (amV G))).length = (amEn0 as).length
  | [] => rfl
  | v :: t => by
    have ih := amEn0_len G t
    have e : lg_sl ((v :: t).map (amV G)) = (if v.category = 2 then [.val (amV G v), .second] else [.val (amV G v)]) ++ lg_sl (t.map (amV G)) := by
      simp only [lg_sl, List.map_cons, List.flatMap_cons, amV_cat]
    rw [e]
    unfold amEn0
    by_cases hc : v.category = 2
    · rw [if_pos hc, if_pos hc]; simp [ih]
    · rw [if_neg hc, if_neg hc]; simp [ih]
theorem amEn0_at (G : amG) : ∀ (as : List Value) (o i : Nat) (v : Value), (amEn0 as)[i]? = some v → amRA v = false → (o + i, amV G v) ∈ lv_args o (as.map (amV G))
  | [], o, i, v, h, _ => by simp [amEn0] at h
  | a :: t, o, i, v, h, hr => by
    unfold amEn0 at h
    by_cases hc : a.category = 2
    · rw [if_pos hc] at h
      match i, h with
      | 0, h =>
        simp at h
        subst h
        exact List.mem_cons_self
      | 1, h =>
        simp at h
        subst h
        exact absurd hr (by decide)
      | i + 2, h =>
        simp only [List.getElem?_cons_succ] at h
        have := amEn0_at G t (o + 2) i v h hr
        refine List.mem_cons_of_mem _ ?_
        rw [if_pos (by rw [amV_cat]; exact hc)]
        rw [show o + (i + 2) = o + 2 + i by omega]
        exact this
    · rw [if_neg hc] at h
      match i, h with
      | 0, h =>
        simp at h
        subst h
        exact List.mem_cons_self
      | i + 1, h =>
        simp only [List.getElem?_cons_succ] at h
        have := amEn0_at G t (o + 1) i v h hr
        refine List.mem_cons_of_mem _ ?_
        rw [if_neg (by rw [amV_cat]; exact hc)]
        rw [show o + (i + 1) = o + 1 + i by omega]
        exact this
theorem amEn_ok {G : amG} {as : List Value} {nL : Nat} {ls : Array Slot} (hlen : (amEn0 as).length ≤ nL) (h : lv_has ls nL (lv_args 0 (as.map (amV G)))) : amL G nL ls (amEn nL as) := by
  refine ⟨by unfold amEn; simp; omega, h.mono (fun q hq => ?_)⟩
  obtain ⟨v, h1, h2, h3⟩ := amAs_mem.mp hq
  unfold amEn at h1
  by_cases hi : q.1 < (amEn0 as).length
  · rw [List.getElem?_append_left hi] at h1
    have := amEn0_at G as 0 q.1 v h1 h2
    rw [Nat.zero_add, ← h3] at this
    exact this
  · rw [List.getElem?_append_right (by omega)] at h1
    have := List.eq_of_mem_replicate (List.mem_of_getElem? h1)
    rw [this] at h2
    exact absurd h2 (by decide)
/-- a method's contract, from its body -/
theorem amMet_of {l : Launch} {G : amG} {y : MethodName} {cc : ByteArray} {nL d mc ms : Nat} {rt : Option FieldType} {T : amT} {cut : Nat → Bool} {rs : Nat → Option amS} (hy : plainName y.cls = true)
    (hsite : ∀ pc S i sz, rs pc = some S → decode cc pc = .ok (i, sz) → amSiteP pc G l y.cls y.name y.desc (amRm d mc ms) i sz S.1 S.2.1 S.2.2.1 S.2.2.2)
    (hT : ∀ as h K, T as h K → (amEn0 as).length ≤ nL ∧ ∀ F, amCld cc cut rs rt mc ms (amRet mc ms K) F → F 0 (amEn nL as) [] h 0 0) : amMet l G y (ws_ y cc nL rt) d mc ms T := by
  intro as h K hTK
  obtain ⟨hlen, hbody⟩ := hT as h K hTK
  refine Met.ofW (cc := cc) (maxL := nL) (ret := rt) hy rfl ?_
  intro p e s m args below meth c s₁ B hml hv
  obtain ⟨rfl, hR, hK⟩ := hv
  have hx := B.exec
  have hb := B.bytes
  have hr := B.returns
  have hts := atoms_spec (ws := ws_ y cc nL rt) B.pre
  have hts : ∀ w ∈ lw_all, w.before _ s = true := fun w h => hts w (List.mem_cons_of_mem _ h)
  have hown : s.vm.findClass y.cls = some m.cls := findClass_of_methodNamed B.named
  have hlocks := B.notSynchronized
  have hC : amC G y.cls cc nL p s m (as.map (amV G)).toArray c := ⟨hx, hb, hml, hown, hts, hK, amBase hR⟩
  have key := hbody (amF G p l e (headSpec (ws_ y cc nL rt) (amRm d mc ms)).room s m (as.map (amV G)).toArray below meth c nL (MQ below (amQ G K) (as.map (amV G)).toArray s mc ms (amA G))) ?_
  · have hl := lv_entry (as.map (amV G)) (n := nL) (by rw [amEn0_len]; exact hlen)
    rw [lg_entry_eq]
    exact key s.heap [] _ hR va_S.rf (amEn_ok hlen hl)
  · refine amCld_ok (R := (headSpec (ws_ y cc nL rt) (amRm d mc ms)).room) hC ?_ ⟨(name_of_methodNamed B.named B.method).1, B.named⟩ hsite
    intro v h' k z hret H locs lsv pc i hR' hS hd hcase
    obtain ⟨h1, h2, h3, he, hKv⟩ := hret
    have hR3 := hR'.eq he
    refine W.widen h1 h2 ?_
    rcases hcase with ⟨x, ty, rfl, rfl, e1, e2⟩ | ⟨x, rfl, rfl, e1⟩ | ⟨x, ty, rfl, rfl, hx', e1, e2⟩ | ⟨rfl, rfl, e1⟩
    · exact W.zret (v := x) hx hb (hr.trans e1) e2 (fun t ht hW => ⟨⟨_, h3, rfl, hKv, by rw [ht]; exact hR3⟩, hS.F ht⟩) hS.2.2 hd
    · exact W.lret (v := x) hx hb (hr.trans e1) (fun t ht hW => ⟨⟨_, h3, rfl, hKv, by rw [ht]; exact hR3⟩, hS.F ht⟩) hS.2.2 hd
    · refine W.aret (v := amV G x) hx hb (hr.trans e1) ?_ ?_ (fun t ht hW => ⟨⟨_, h3, rfl, hKv, by rw [ht]; exact hR3⟩, hS.F ht⟩) hS.2.2 hd
      · cases ty with
        | object n => exact Or.inl ⟨n, rfl⟩
        | array t => exact Or.inr ⟨t, rfl⟩
        | _ => exact absurd e2 (by decide)
      · rcases hx' with rfl | ⟨a, rfl⟩
        · exact Or.inl rfl
        · exact Or.inr ⟨_, rfl⟩
    · exact W.vret hx hb (hr.trans e1) (fun t ht hW => ⟨⟨none, h3, rfl, hKv, by rw [ht]; exact hR3⟩, hS.F ht⟩) hS.2.2 hd
/-! sites by a list -/
def amLk : List (Nat × amS) → Nat → Option amS
  | [], _ => none
  | q :: t, pc => if pc = q.1 then some q.2 else amLk t pc
theorem amLk_ok {G : amG} {l : Launch} {own nm ds : String} {R : Room} {cc : ByteArray} : ∀ {L : List (Nat × amS)}, (∀ q ∈ L, ∃ i sz, decode cc q.1 = .ok (i, sz) ∧ amSiteP q.1 G l own nm ds R i sz q.2.1 q.2.2.1 q.2.2.2.1 q.2.2.2.2) → ∀ pc S i sz, amLk L pc = some S → decode cc pc = .ok (i, sz) → amSiteP pc G l own nm ds R i sz S.1 S.2.1 S.2.2.1 S.2.2.2
  | [], _, pc, S, i, sz, h, _ => by cases h
  | q :: t, hL, pc, S, i, sz, h, hd => by
    unfold amLk at h
    by_cases hp : pc = q.1
    · rw [if_pos hp] at h
      cases h
      obtain ⟨j, n, h1, h2⟩ := hL q List.mem_cons_self
      rw [← hp] at h1 h2
      rw [hd] at h1
      cases h1
      exact h2
    · rw [if_neg hp] at h
      exact amLk_ok (fun q hq => hL q (List.mem_cons_of_mem _ hq)) pc S i sz h hd
def amTget (ci f : Nat) : amT := fun as h K => match as with
  | [.ref a] => h.1 a = (0, ci) ∧ K (some (amRd (amTy ci f) h a f)) h
  | _ => False
def amTput (ci f : Nat) : amT := fun as h K => match as with
  | [.ref a, v] => h.1 a = (0, ci) ∧ amN0 ≤ a ∧ amFit (amTy ci f) v ∧ K none (amWr h a f v)
  | _ => False
def amTcon (v : Value) : amT := fun _ h K => K (some v) h
def amTnew (ci : Nat) : amT := fun _ h K => K (some (.ref h.2.2.2.2)) (amNew h (0, ci))
section AMST
variable {G : amG} {l : Launch} {own nm : String} {R : Room} {idx : Nat}
theorem amSiteGet {ci f : Nat} (hF : amFS own idx ci f) : amSite G l own nm R (.getfield idx) 3 1 0 0 (amTget ci f) := by
  intro cc nL p e s m args below meth c Q pc ls as st h k z K hC hnm hd hT hn hcat hk hz kk
  match as, hT with
  | [.ref a], hT => exact am_getfield hC hd hF hT.1 (kk _ _ hT.2)
/-- a put: the field isn't final, or the class's own in its constructor -/
theorem amSitePut {ci f : Nat} (hF : amFS own idx ci f) (hP : ∀ q : vw_C, amCl[ci]? = some q → (q.2.1 f).2.2.2 = false) : amSite G l own nm R (.putfield idx) 3 2 0 0 (amTput ci f) := by
  intro cc nL p e s m args below meth c Q pc ls as st h k z K hC hnm hd hT hn hcat hk hz kk
  match as, hT with
  | [.ref a, v], hT => exact am_putfield hC hd hF (fun q hq => Or.inl (hP q hq)) hT.1 hT.2.1 hT.2.2.1 (kk _ _ hT.2.2.2)
/-- .. the class's own final field, in its constructor -/
theorem amSitePutF {ci f : Nat} (hF : amFS own idx ci f) (hP : ∀ q : vw_C, amCl[ci]? = some q → (q.2.1 f).1 = own) : amSite G l own "<init>" R (.putfield idx) 3 2 0 0 (amTput ci f) := by
  intro cc nL p e s m args below meth c Q pc ls as st h k z K hC hnm hd hT hn hcat hk hz kk
  match as, hT with
  | [.ref a, v], hT => exact am_putfield hC hd hF (fun q hq => Or.inr ⟨hnm, hP q hq⟩) hT.1 hT.2.1 hT.2.2.1 (kk _ _ hT.2.2.2)
theorem amSiteLdc {v : Int32} (hc : Cond.constant own idx v ∈ lw_all) : amSite G l own nm R (.ldc idx) 2 0 0 0 (amTcon (.int v)) := by
  intro cc nL p e s m args below meth c Q pc ls as st h k z K hC hnm hd hT hn hcat hk hz kk H locs lsv hR hS hL
  cases as with
  | nil => exact lv_ldc hC.1 hC.2.1 hC.2.2.2.1 (hC.2.2.2.2.1 _ hc) hd (kk _ _ hT H locs lsv hR hS hL)
  | cons _ _ => simp at hn
theorem amSiteLdcw {v : Int32} (hc : Cond.constant own idx v ∈ lw_all) : amSite G l own nm R (.ldc_w idx) 3 0 0 0 (amTcon (.int v)) := by
  intro cc nL p e s m args below meth c Q pc ls as st h k z K hC hnm hd hT hn hcat hk hz kk H locs lsv hR hS hL
  cases as with
  | nil => exact lv_ldcw hC.1 hC.2.1 hC.2.2.2.1 (hC.2.2.2.2.1 _ hc) hd (kk _ _ hT H locs lsv hR hS hL)
  | cons _ _ => simp at hn
theorem amSiteLdc2 {v : Int64} (hc : Cond.constantLong own idx v ∈ lw_all) : amSite G l own nm R (.ldc2_w idx) 3 0 0 0 (amTcon (.long v)) := by
  intro cc nL p e s m args below meth c Q pc ls as st h k z K hC hnm hd hT hn hcat hk hz kk H locs lsv hR hS hL
  cases as with
  | nil => exact lv_ldc2 hC.1 hC.2.1 hC.2.2.2.1 (hC.2.2.2.2.1 _ hc) hd (kk _ _ hT H locs lsv hR hS hL)
  | cons _ _ => simp at hn
theorem amDef {ci : Nat} {q : vw_C} (h : amCl[ci]? = some q) : ∀ k, k < q.2.2 → defaultValue (amTy ci k) = (match amMk (amTy ci k) with | 1 => .long 0 | 2 => .null | _ => .int 0) :=
  amCl_cases (P := fun ci q => ∀ k, k < q.2.2 → defaultValue (amTy ci k) = (match amMk (amTy ci k) with | 1 => .long 0 | 2 => .null | _ => .int 0)) (by decide +kernel) (by decide +kernel) (by decide +kernel) (by decide +kernel) (by decide +kernel) (by decide +kernel) (by decide +kernel) (by decide +kernel) (by decide +kernel) h
theorem amSiteNew {ci n : Nat} {C : String} (hq : ∃ q, amCl[ci]? = some q ∧ q.1 = C ∧ q.2.2 = n) (h1 : Cond.classLink own idx C ∈ lw_all) (h2 : Cond.instantiable C n ∈ lw_all) (h3 : Cond.initialized C ∈ lw_all) : amSite G l own nm R (.new idx) 3 0 1 n (amTnew ci) := by
  intro cc nL p e s m args below meth c Q pc ls as st h k z K hC hnm hd hT hn hcat hk hz kk H locs lsv hR hS hL
  obtain ⟨q, hq, rfl, rfl⟩ := hq
  cases as with
  | cons _ _ => simp at hn
  | nil =>
    obtain ⟨hx, hb, hml, hown, hts, hK, hb0⟩ := hC
    have hKn := hK.1.1 ci _ hq
    refine W.newcK hx hb hown (hts _ h1) (hts _ h2) (hts _ h3) rfl hd hk hz hKn.2.1 rfl fun H1 kC hkC e1 z1 o1 => ?_
    have hR' := hR.push (H' := H1) (sh := (0, ci)) z1 o1 (by
      have hsh : (amNew h (0, ci)).1 h.2.2.2.2 = (0, ci) := by simp [amNew, va_up]
      refine ⟨fun _ => ?_, fun y1 _ => ?_⟩
      · rw [hsh]
        refine ⟨q, hq, ?_⟩
        rw [hR.ad]
        refine amOB.of ?_
        refine (u_born (amTy ci) hts (amIn hq) hKn hkC e1 (amTyOk hq)).to (fun k hk => ?_)
        rw [amDef hq k hk]
        unfold amRd
        simp only [amNew, va_up, if_pos]
        generalize amMk (amTy ci k) = t
        match t with
        | 0 => rfl
        | 1 => rfl
        | 2 => rfl
        | t + 3 => rfl
      · rw [hsh] at y1
        exact absurd y1 (Nat.not_succ_le_zero 0))
    have := kk _ _ hT H1 locs lsv hR' ⟨Nat.le_trans hS.1 (by omega), fun x h1 h2 => (o1 x (Nat.lt_of_lt_of_le h1 hS.1)).trans (hS.2.1 x h1 h2), hS.2.2⟩ hL
    have e9 : ((some (Value.ref h.2.2.2.2)).toList ++ st).map (amV G) = .ref H.size :: st.map (amV G) := by simp [amV, hR.ad]
    rw [e9] at this
    exact this
end AMST
