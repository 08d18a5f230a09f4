/-! AM: exceptions. A callee that returns or throws; a body that throws; a body with handlers -/
set_option maxRecDepth 100000
/-- what a method asks and gives: all that may come behind it, returned or thrown (the class's number, the object's id) -/
abbrev amXT : Type := List Value → amH → (Option Value → amH → Prop) → (Nat → Nat → amH → Prop) → Prop
def amEx (e : Nat) : String := match e with
  | 0 => "ReadingStages$Fault"
  | 1 => "java/lang/NullPointerException"
  | 2 => "java/lang/ClassCastException"
  | 3 => "java/lang/ArrayIndexOutOfBoundsException"
  | 4 => "java/lang/NegativeArraySizeException"
  | _ => "java/lang/ArrayStoreException"
def amXC (G : amG) (KX : Nat → Nat → amH → Prop) : String → Addr → State → State → Prop := fun E a st t => (∃ (ex q : Nat) (h : amH), E = amEx ex ∧ a = amAd G q ∧ KX ex q h ∧ amRep G h t.heap) ∧ va_F (amA G) st t
def amMetX (l : Launch) (G : amG) (y : MethodName) (ws : List Cond) (d mc ms : Nat) (T : amXT) : Prop :=
  ∀ (as : List Value) (h : amH) (K : Option Value → amH → Prop) (KX : Nat → Nat → amH → Prop), T as h K KX → vx_Met l y ws (amRm d mc ms) (amPc G as h) (amQ G K) (amXC G KX) mc ms (amA G)
/-- the method's frame at pc, with q thrown over it: it comes to the end -/
def amFX (G : amG) (p : Program) (l : Launch) (e : Env) (R : Room) (s : State) (m : MethodId) (args : Array Value) (below : List Frame) (meth : Method) (c : Code) (nL : Nat) (Q : State → Prop) (pc : Nat) (ls : List Value) (ex q : Nat) (h : amH) (k z : Nat) : Prop :=
  ∀ (H : Heap) (locs : List Loc) (lsv : Array Slot) (rest : List Value) (ce : Cell), amRep G h H → va_S (amA G) s.heap H locs → amL G nL lsv ls → H[amAd G q]? = some ce → ce.vm = .none → s.vm.findClass (amEx ex) = some ce.cls → vx_W p l e R s m args below meth c H locs k z Q (F0 m pc lsv rest) (amAd G q)
/-- a site that may throw -/
def amSiteX (pc : Nat) (G : amG) (l : Launch) (own nm ds : String) (R : Room) (i : Instr) (len n mc ms : Nat) (T : amXT) : Prop :=
  ∀ {cc : ByteArray} {nL : Nat} {p : Program} {e : Env} {s : State} {m : MethodId} {args : Array Value} {below : List Frame} {meth : Method} {c : Code} {Q : State → Prop} {ls as st : List Value} {h : amH} {k z : Nat} {K : Option Value → amH → Prop} {KX : Nat → Nat → amH → Prop},
    amC G own cc nL p s m args c → (meth.name = nm ∧ s.methodNamed? ⟨own, nm, ds⟩ = some m) → meth.locks = false → decode cc pc = .ok (i, len) → T as h K KX → as.length = n → (st.map fun v => v.category).sum ≤ 8 → k + mc ≤ R.cells → z + ms ≤ R.slots →
    (∀ (v : Option Value) (h' : amH), K v h' → amF G p l e R s m args below meth c nL Q (pc + len) ls (v.toList ++ st) h' (k + mc) (z + ms)) →
    (∀ (ex q : Nat) (h' : amH), KX ex q h' → amFX G p l e R s m args below meth c nL Q pc ls ex q h' (k + mc) (z + ms)) → amF G p l e R s m args below meth c nL Q pc ls (as.reverse ++ st) h k z
def amRecvX (ci : Nat) (T : amXT) : amXT := fun as h K KX => match as with
  | .ref b :: t => h.1 b = (0, ci) ∧ T (.ref b :: t) h K KX
  | _ => False
section AMXR
variable {G : amG} {own : String} {cc : ByteArray} {nL : Nat} {p : Program} {l : Launch} {e : Env} {R : Room} {s : State} {m : MethodId} {args : Array Value} {below : List Frame} {meth : Method} {c : Code} {Q : State → Prop}
variable {pc : Nat} {ls st : List Value} {h : amH} {k z : Nat}
theorem amRunX {mc ms : Nat} {lsv : Array Slot} {st0 : List Value} {H : Heap} {locs : List Loc} {K : Option Value → amH → Prop} {KX : Nat → Nat → amH → Prop} {a : Array Value} (hr : vx_Run p l e R s m args below meth c H locs k z mc ms (F0 m pc lsv st0) (st.map (amV G)) (amQ G K a) (amXC G KX) (amA G)) (hS : va_S (amA G) s.heap H locs) (hL : amL G nL lsv ls)
    (kk : ∀ (v : Option Value) (h' : amH), K v h' → amF G p l e R s m args below meth c nL Q (pc + 3) ls (v.toList ++ st) h' (k + mc) (z + ms)) (kx : ∀ (ex q : Nat) (h' : amH), KX ex q h' → amFX G p l e R s m args below meth c nL Q pc ls ex q h' (k + mc) (z + ms)) : W p l e R s m args below meth c H locs k z Q (F0 m pc lsv st0) := by
  intro T hT X
  rcases hr T hT X with ⟨v, st₀, t, T', L, h0, X', hL', e1, e2, ⟨⟨v', h', hv, hK, hR'⟩, hz, hk⟩, stp⟩ | ⟨q, st₀, t, T', L, E, ce, h0, X', hL', e1, e2, ⟨⟨ex, q', h', rfl, rfl, hKX, hR'⟩, hz, hk⟩, hce, hcv, hcl, stp⟩
  · cases hv
    rw [h0] at hz hk
    have hS' : va_S (amA G) s.heap T'.heap (locs ++ L) := ⟨Nat.le_trans hS.1 (by rw [e1]; exact hz), fun q h1 h2 => by rw [e1, hk q (Nat.lt_of_lt_of_le h1 hS.1) h2]; exact hS.2.1 q h1 h2, fun q hq => by
        rcases List.mem_append.mp hq with h | h
        · exact hS.2.2 q h
        · exact hL' q h⟩
    obtain ⟨t2, a1, b1⟩ := kk v' h' hK T'.heap (locs ++ L) lsv (by rw [e1]; exact hR') hS' hL T' rfl X'
    refine ⟨t2, stp t2 ?_, b1⟩
    have e3 : (v'.toList ++ st).map (amV G) = (v'.map (amV G)).toList ++ st.map (amV G) := by cases v' <;> simp
    rw [e3] at a1
    exact a1
  · rw [h0] at hz hk
    have hS' : va_S (amA G) s.heap T'.heap (locs ++ L) := ⟨Nat.le_trans hS.1 (by rw [e1]; exact hz), fun q h1 h2 => by rw [e1, hk q (Nat.lt_of_lt_of_le h1 hS.1) h2]; exact hS.2.1 q h1 h2, fun q hq => by
        rcases List.mem_append.mp hq with h | h
        · exact hS.2.2 q h
        · exact hL' q h⟩
    obtain ⟨t2, a1, b1⟩ := kx ex q' h' hKX T'.heap (locs ++ L) lsv (st.map (amV G)) ce (by rw [e1]; exact hR') hS' hL (by rw [e1]; exact hce) hcv hcl T' rfl X'
    exact ⟨t2, stp.trans a1, b1⟩
end AMXR
/-- an object's own method that may throw -/
theorem amSiteVX {G : amG} {l : Launch} {own nm ds : String} {R : Room} {idx d mc ms maxL n ci dR mcR msR pc : Nat} {y : MethodName} {bytes : ByteArray} {ret : Option FieldType} {T : amXT} {C : String} (hM : amMetX l G y (ws_ y bytes maxL ret) d mc ms T) (hRm : R = amRm dR mcR msR) (hd : d + 1 ≤ dR) (hm : maxL ≤ 40) (hw : GoodIn lw_all (wsV own idx C y (ws_ y bytes maxL ret))) (hq : ∃ q, amCl[ci]? = some q ∧ q.1 = C)
    (hy : y.cls = C ∧ y.cls ≠ "java/lang/invoke/MethodHandle" ∧ y.cls ≠ "java/lang/invoke/VarHandle" ∧ (parseMethodDescriptor y.desc).map (fun d => d.parameters.length) = some n) : amSiteX pc G l own nm ds R (.invokevirtual idx) 3 (n + 1) mc ms (amRecvX ci T) := by
  intro cc nL p e s m args below meth c Q ls as st h k z K KX hC hnm hlk hd' hT hn hcat hk hz kk kx H locs lsv hR hS hL
  obtain ⟨hx, hb, hml, hown, hts, hK, hb0⟩ := hC
  obtain ⟨q, hq, rfl⟩ := hq
  cases as with
  | nil => exact hT.elim
  | cons a t =>
    cases a with
    | ref b =>
      obtain ⟨hs, hT⟩ := hT
      refine amRunX (vx_runV (As := t.map (amV G)) (rest := st.map (amV G)) ⟨hx, hb, hml, hown, hts⟩ (hM _ h K KX hT) (cwV n hts hw rfl rfl rfl hy (amRoom hRm hd hm)) (amPreV hK hR hS hq hs) rfl (by simp only [List.length_map, List.length_cons] at hn ⊢; omega) hL.2.1 ?_ (lv_room (by rw [amCats]; exact hcat)) hd' ⟨hk, hz⟩) hS hL kk kx
      show ((.ref b :: t).reverse ++ st).map (amV G) = _
      rw [amStk]
      simp [amV]
    | _ => exact hT.elim
/-- 'throw' of the one Fault -/
def amTthrow : amXT := fun as h _ KX => match as with
  | [.ref q] => h.1 q = (0, 3) ∧ amN0 ≤ q ∧ KX 0 q h
  | _ => False
theorem amSiteThrow {G : amG} {l : Launch} {own nm ds : String} {R : Room} {pc : Nat} : amSiteX pc G l own nm ds R .athrow 1 1 0 0 amTthrow := by
  intro cc nL p e s m args below meth c Q ls as st h k z K KX hC hnm hlk hd hT hn hcat hk hz kk kx H locs lsv hR hS hL
  obtain ⟨hx, hb, hml, hown, hts, hK, hb0⟩ := hC
  match as, hT with
  | [.ref q], hT =>
  obtain ⟨r, hr, cell, g1, g2, g3, -⟩ := hR.obj hT.1
  cases hr
  refine vx_athrow hx hb hd ?_
  exact kx 0 q h hT.2.2 H locs lsv _ cell hR hS hL g1 (g3.2 hT.2.1) (by rw [g2]; exact (hK.1.1 3 _ rfl).2.1)
/-- sites that throw, by a list -/
abbrev amXS : Type := Nat × Nat × Nat × amXT
def amLkX : List (Nat × amXS) → Nat → Option amXS
  | [], _ => none
  | q :: t, pc => if pc = q.1 then some q.2 else amLkX t pc
theorem amLkX_ok {G : amG} {l : Launch} {own nm ds : String} {R : Room} {cc : ByteArray} : ∀ {L : List (Nat × amXS)}, (∀ q ∈ L, ∃ i sz, decode cc q.1 = .ok (i, sz) ∧ amSiteX q.1 G l own nm ds R i sz q.2.1 q.2.2.1 q.2.2.2.1 q.2.2.2.2) → ∀ pc S i sz, amLkX L pc = some S → decode cc pc = .ok (i, sz) → amSiteX pc G l own nm ds R i sz S.1 S.2.1 S.2.2.1 S.2.2.2
  | [], _, pc, S, i, sz, h, _ => by cases h
  | q :: t, hL, pc, S, i, sz, h, hd => by
    unfold amLkX at h
    by_cases hp : pc = q.1
    · rw [if_pos hp] at h
      cases h
      obtain ⟨j, n, h1, h2⟩ := hL q List.mem_cons_self
      rw [← hp] at h1 h2
      rw [hd] at h1
      cases h1
      exact h2
    · rw [if_neg hp] at h
      exact amLkX_ok (fun q hq => hL q (List.mem_cons_of_mem _ hq)) pc S i sz h hd
/-- handlers, by a list: place, class, where it goes on -/
def amHd : List (Nat × Nat × Nat) → Nat → Nat → Option Nat
  | [], _, _ => none
  | q :: t, pc, ex => if pc = q.1 ∧ ex = q.2.1 then some q.2.2 else amHd t pc ex
abbrev amXR : Type := Nat → Nat → amH → Nat → Nat → Prop
/-- where an exception goes: to a handler, or out -/
def amCat (hd : Option Nat) (retX : amXR) (X : amX) (ls : List Value) (ex q : Nat) (h : amH) (k z : Nat) : Prop := match hd with
  | some t => X t ls [.ref q] h k z
  | none => retX ex q h k z
def amStpX (rx : Nat → Option amXS) (hd : Nat → Nat → Option Nat) (retX : amXR) (rs : Nat → Option amS) (rt : Option FieldType) (Rc Rs : Nat) (ret : Option Value → amH → Nat → Nat → Prop) (X : amX) (i : Instr) (sz pc : Nat) (ls st : List Value) (h : amH) (k z : Nat) : Prop := match rx pc with
  | some (n, mc, ms, T) => n ≤ st.length ∧ (st.drop n).length ≤ 4 ∧ k + mc ≤ Rc ∧ z + ms ≤ Rs ∧ T (st.take n).reverse h (fun v h' => X (pc + sz) ls (v.toList ++ st.drop n) h' (k + mc) (z + ms)) (fun ex q h' => amCat (hd pc ex) retX X ls ex q h' (k + mc) (z + ms))
  | none => amStp rs rt Rc Rs ret X i sz pc ls st h k z
def amWdX (rx : Nat → Option amXS) (hd : Nat → Nat → Option Nat) (retX : amXR) (rs : Nat → Option amS) (rt : Option FieldType) (Rc Rs : Nat) (ret : Option Value → amH → Nat → Nat → Prop) (X : amX) (di : Except DecodeError (Instr × Nat)) (pc : Nat) (ls st : List Value) (h : amH) (k z : Nat) : Prop := match di with
  | .ok (i, sz) => if amSz i sz = true then amStpX rx hd retX rs rt Rc Rs ret X i sz pc ls st h k z else False
  | .error _ => False
def amWpX (cc : ByteArray) (cut : Nat → Bool) (rx : Nat → Option amXS) (hd : Nat → Nat → Option Nat) (rs : Nat → Option amS) (rt : Option FieldType) (Rc Rs : Nat) (retX : amXR) (ret : Option Value → amH → Nat → Nat → Prop) (F : amX) : Nat → amX
  | 0 => F
  | n + 1 => fun pc ls st h k z => if cut pc = true then F pc ls st h k z else amWdX rx hd retX rs rt Rc Rs ret (amWpX cc cut rx hd rs rt Rc Rs retX ret F n) (decode cc pc) pc ls st h k z
def amWsX (cc : ByteArray) (cut : Nat → Bool) (rx : Nat → Option amXS) (hd : Nat → Nat → Option Nat) (rs : Nat → Option amS) (rt : Option FieldType) (Rc Rs : Nat) (retX : amXR) (ret : Option Value → amH → Nat → Nat → Prop) (F : amX) (n : Nat) : amX :=
  fun pc ls st h k z => amWdX rx hd retX rs rt Rc Rs ret (amWpX cc cut rx hd rs rt Rc Rs retX ret F n) (decode cc pc) pc ls st h k z
section
variable {cc : ByteArray} {cut : Nat → Bool} {rx : Nat → Option amXS} {hd : Nat → Nat → Option Nat} {retX : amXR} {rs : Nat → Option amS} {rt : Option FieldType} {Rc Rs : Nat} {ret : Option Value → amH → Nat → Nat → Prop} {F : amX} {n pc : Nat} {ls st : List Value} {h : amH} {k z : Nat} {i : Instr} {sz : Nat}
/-- a plain step -/
theorem amWpX_dec (hc : cut pc = false) (h0 : rx pc = none) (hd' : decode cc pc = .ok (i, sz)) (hz : amSz i sz = true) :
    amWpX cc cut rx hd rs rt Rc Rs retX ret F (n + 1) pc ls st h k z = amStp rs rt Rc Rs ret (amWpX cc cut rx hd rs rt Rc Rs retX ret F n) i sz pc ls st h k z := by
  show (if cut pc = true then _ else amWdX rx hd retX rs rt Rc Rs ret _ (decode cc pc) pc ls st h k z) = _
  rw [if_neg (by rw [hc]; decide), hd']
  refine (if_pos hz).trans ?_
  unfold amStpX
  rw [h0]
theorem amWpX_cut (hc : cut pc = true) : amWpX cc cut rx hd rs rt Rc Rs retX ret F (n + 1) pc ls st h k z = F pc ls st h k z := by
  show (if cut pc = true then _ else _) = _
  rw [if_pos hc]
theorem amWsX_dec (h0 : rx pc = none) (hd' : decode cc pc = .ok (i, sz)) (hz : amSz i sz = true) :
    amWsX cc cut rx hd rs rt Rc Rs retX ret F n pc ls st h k z = amStp rs rt Rc Rs ret (amWpX cc cut rx hd rs rt Rc Rs retX ret F n) i sz pc ls st h k z := by
  show amWdX rx hd retX rs rt Rc Rs ret _ (decode cc pc) pc ls st h k z = _
  rw [hd']
  refine (if_pos hz).trans ?_
  unfold amStpX
  rw [h0]
/-- a step that may throw -/
theorem amWpX_thr {n1 mc1 ms1 : Nat} {T : amXT} (hc : cut pc = false) (h0 : rx pc = some (n1, mc1, ms1, T)) (hd' : decode cc pc = .ok (i, sz)) (hz : amSz i sz = true) :
    amWpX cc cut rx hd rs rt Rc Rs retX ret F (n + 1) pc ls st h k z = (n1 ≤ st.length ∧ (st.drop n1).length ≤ 4 ∧ k + mc1 ≤ Rc ∧ z + ms1 ≤ Rs ∧ T (st.take n1).reverse h (fun v h' => amWpX cc cut rx hd rs rt Rc Rs retX ret F n (pc + sz) ls (v.toList ++ st.drop n1) h' (k + mc1) (z + ms1)) (fun ex q h' => amCat (hd pc ex) retX (amWpX cc cut rx hd rs rt Rc Rs retX ret F n) ls ex q h' (k + mc1) (z + ms1))) := by
  show (if cut pc = true then _ else amWdX rx hd retX rs rt Rc Rs ret _ (decode cc pc) pc ls st h k z) = _
  rw [if_neg (by rw [hc]; decide), hd']
  refine (if_pos hz).trans ?_
  unfold amStpX
  rw [h0]
theorem amWsX_thr {n1 mc1 ms1 : Nat} {T : amXT} (h0 : rx pc = some (n1, mc1, ms1, T)) (hd' : decode cc pc = .ok (i, sz)) (hz : amSz i sz = true) :
    amWsX cc cut rx hd rs rt Rc Rs retX ret F n pc ls st h k z = (n1 ≤ st.length ∧ (st.drop n1).length ≤ 4 ∧ k + mc1 ≤ Rc ∧ z + ms1 ≤ Rs ∧ T (st.take n1).reverse h (fun v h' => amWpX cc cut rx hd rs rt Rc Rs retX ret F n (pc + sz) ls (v.toList ++ st.drop n1) h' (k + mc1) (z + ms1)) (fun ex q h' => amCat (hd pc ex) retX (amWpX cc cut rx hd rs rt Rc Rs retX ret F n) ls ex q h' (k + mc1) (z + ms1))) := by
  show amWdX rx hd retX rs rt Rc Rs ret _ (decode cc pc) pc ls st h k z = _
  rw [hd']
  refine (if_pos hz).trans ?_
  unfold amStpX
  rw [h0]
end
def amCldX (cc : ByteArray) (cut : Nat → Bool) (rx : Nat → Option amXS) (hd : Nat → Nat → Option Nat) (rs : Nat → Option amS) (rt : Option FieldType) (Rc Rs : Nat) (retX : amXR) (ret : Option Value → amH → Nat → Nat → Prop) (F : amX) : Prop :=
  (∀ n pc ls st h k z, amWsX cc cut rx hd rs rt Rc Rs retX ret F n pc ls st h k z → F pc ls st h k z) ∧ (∀ pc ls st h h' k z, amEq h h' → F pc ls st h' k z → F pc ls st h k z) ∧ ∀ pc ls st h k z k' z', k ≤ k' → z ≤ z' → F pc ls st h k' z' → F pc ls st h k z
/-- what may be thrown at the end -/
def amRetX (mc ms : Nat) (KX : Nat → Nat → amH → Prop) : amXR := fun ex q h k z => k ≤ mc ∧ z ≤ ms ∧ ∃ h', amEq h h' ∧ KX ex q h'
section AMXW
variable {G : amG} {own : String} {cc : ByteArray} {nL : Nat} {p : Program} {l : Launch} {e : Env} {R : Room} {s : State} {m : MethodId} {args : Array Value} {below : List Frame} {meth : Method} {c : Code} {Q : State → Prop}
theorem amWdX_ok {rx : Nat → Option amXS} {hd : Nat → Nat → Option Nat} {retX : amXR} {rs : Nat → Option amS} {rt : Option FieldType} {ret : Option Value → amH → Nat → Nat → Prop} {X : amX} (hC : amC G own cc nL p s m args c)
    (hX : ∀ pc ls st h k z, X pc ls st h k z → amF G p l e R s m args below meth c nL Q pc ls st h k z)
    (hret : ∀ v h k z, ret v h k z → ∀ (H : Heap) (locs : List Loc) (lsv : Array Slot) (pc : Nat) (i : Instr), amRep G h H → va_S (amA G) s.heap H locs → decode cc pc = .ok (i, 1) → ((∃ x ty, i = .ireturn ∧ v = some (.int x) ∧ rt = some ty ∧ narrow ty (.int x) = .int x) ∨ (∃ x, i = .lreturn ∧ v = some (.long x) ∧ rt = some .long) ∨ (∃ x ty, i = .areturn ∧ v = some x ∧ amIsR x ∧ rt = some ty ∧ amMk ty = 2) ∨ (i = .return_ ∧ v = none ∧ rt = none)) → W p l e R s m args below meth c H locs k z Q (F0 m pc lsv (v.toList.map (amV G))))
    {nm ds : String} (hnm : meth.name = nm ∧ s.methodNamed? ⟨own, nm, ds⟩ = some m) (hlk : meth.locks = false) (hsite : ∀ pc S i sz, rs pc = some S → decode cc pc = .ok (i, sz) → amSiteP pc G l own nm ds R i sz S.1 S.2.1 S.2.2.1 S.2.2.2) (hsx : ∀ pc S i sz, rx pc = some S → decode cc pc = .ok (i, sz) → amSiteX pc G l own nm ds R i sz S.1 S.2.1 S.2.2.1 S.2.2.2)
    (hhd : ∀ pc ex t, hd pc ex = some t → ∀ ls q h k z, amF G p l e R s m args below meth c nL Q t ls [.ref q] h k z → amFX G p l e R s m args below meth c nL Q pc ls ex q h k z) (hrx : ∀ pc ex q ls h k z, retX ex q h k z → amFX G p l e R s m args below meth c nL Q pc ls ex q h k z)
    {pc : Nat} {ls st : List Value} {h : amH} {k z : Nat} (hs : amWdX rx hd retX rs rt R.cells R.slots ret X (decode cc pc) pc ls st h k z) : amF G p l e R s m args below meth c nL Q pc ls st h k z := by
  unfold amWdX at hs
  split at hs
  · next i sz hdc =>
    by_cases hz : amSz i sz = true
    · rw [if_pos hz] at hs
      unfold amStpX at hs
      split at hs
      · next n1 mc1 ms1 T h0 =>
        obtain ⟨q1, q2, q3, q4, q5⟩ := hs
        have e : ls = ls := rfl
        have key := hsx pc (n1, mc1, ms1, T) i sz h0 hdc (ls := ls) (as := (st.take n1).reverse) (st := st.drop n1) (h := h) (k := k) (z := z) hC hnm hlk hdc q5 (by simp; omega)
          (Nat.le_trans (amCat2 _) (by omega)) q3 q4 (fun v h' g => hX _ _ _ _ _ _ g) (fun ex q h' g => by
            unfold amCat at g
            split at g
            · next t ht => exact hhd pc ex t ht ls q h' _ _ (hX _ _ _ _ _ _ g)
            · exact hrx pc ex q ls h' _ _ g)
        rw [List.reverse_reverse, List.take_append_drop] at key
        exact key
      · exact amStp_ok hC rfl rfl hX hret hdc hz hnm (fun S q => hsite pc S i sz q hdc) hs
    · rw [if_neg hz] at hs
      exact hs.elim
  · exact hs.elim
theorem amWpX_ok {cut : Nat → Bool} {rx : Nat → Option amXS} {hd : Nat → Nat → Option Nat} {retX : amXR} {rs : Nat → Option amS} {rt : Option FieldType} {ret : Option Value → amH → Nat → Nat → Prop} (hC : amC G own cc nL p s m args c)
    (hret : ∀ v h k z, ret v h k z → ∀ (H : Heap) (locs : List Loc) (lsv : Array Slot) (pc : Nat) (i : Instr), amRep G h H → va_S (amA G) s.heap H locs → decode cc pc = .ok (i, 1) → ((∃ x ty, i = .ireturn ∧ v = some (.int x) ∧ rt = some ty ∧ narrow ty (.int x) = .int x) ∨ (∃ x, i = .lreturn ∧ v = some (.long x) ∧ rt = some .long) ∨ (∃ x ty, i = .areturn ∧ v = some x ∧ amIsR x ∧ rt = some ty ∧ amMk ty = 2) ∨ (i = .return_ ∧ v = none ∧ rt = none)) → W p l e R s m args below meth c H locs k z Q (F0 m pc lsv (v.toList.map (amV G))))
    {nm ds : String} (hnm : meth.name = nm ∧ s.methodNamed? ⟨own, nm, ds⟩ = some m) (hlk : meth.locks = false) (hsite : ∀ pc S i sz, rs pc = some S → decode cc pc = .ok (i, sz) → amSiteP pc G l own nm ds R i sz S.1 S.2.1 S.2.2.1 S.2.2.2) (hsx : ∀ pc S i sz, rx pc = some S → decode cc pc = .ok (i, sz) → amSiteX pc G l own nm ds R i sz S.1 S.2.1 S.2.2.1 S.2.2.2)
    (hhd : ∀ pc ex t, hd pc ex = some t → ∀ ls q h k z, amF G p l e R s m args below meth c nL Q t ls [.ref q] h k z → amFX G p l e R s m args below meth c nL Q pc ls ex q h k z) (hrx : ∀ pc ex q ls h k z, retX ex q h k z → amFX G p l e R s m args below meth c nL Q pc ls ex q h k z) :
    ∀ (n : Nat) (pc : Nat) (ls st : List Value) (h : amH) (k z : Nat), amWpX cc cut rx hd rs rt R.cells R.slots retX ret (amF G p l e R s m args below meth c nL Q) n pc ls st h k z → amF G p l e R s m args below meth c nL Q pc ls st h k z
  | 0, _, _, _, _, _, _, hs => hs
  | n + 1, pc, ls, st, h, k, z, hs => by
    have hs : (if cut pc = true then amF G p l e R s m args below meth c nL Q pc ls st h k z else amWdX rx hd retX rs rt R.cells R.slots ret (amWpX cc cut rx hd rs rt R.cells R.slots retX ret (amF G p l e R s m args below meth c nL Q) n) (decode cc pc) pc ls st h k z) := hs
    by_cases hc : cut pc = true
    · rw [if_pos hc] at hs
      exact hs
    · rw [if_neg hc] at hs
      exact amWdX_ok hC (fun pc ls st h k z q => amWpX_ok hC hret hnm hlk hsite hsx hhd hrx n pc ls st h k z q) hret hnm hlk hsite hsx hhd hrx hs
theorem amCldX_ok {cut : Nat → Bool} {rx : Nat → Option amXS} {hd : Nat → Nat → Option Nat} {retX : amXR} {rs : Nat → Option amS} {rt : Option FieldType} {ret : Option Value → amH → Nat → Nat → Prop} (hC : amC G own cc nL p s m args c)
    (hret : ∀ v h k z, ret v h k z → ∀ (H : Heap) (locs : List Loc) (lsv : Array Slot) (pc : Nat) (i : Instr), amRep G h H → va_S (amA G) s.heap H locs → decode cc pc = .ok (i, 1) → ((∃ x ty, i = .ireturn ∧ v = some (.int x) ∧ rt = some ty ∧ narrow ty (.int x) = .int x) ∨ (∃ x, i = .lreturn ∧ v = some (.long x) ∧ rt = some .long) ∨ (∃ x ty, i = .areturn ∧ v = some x ∧ amIsR x ∧ rt = some ty ∧ amMk ty = 2) ∨ (i = .return_ ∧ v = none ∧ rt = none)) → W p l e R s m args below meth c H locs k z Q (F0 m pc lsv (v.toList.map (amV G))))
    {nm ds : String} (hnm : meth.name = nm ∧ s.methodNamed? ⟨own, nm, ds⟩ = some m) (hlk : meth.locks = false) (hsite : ∀ pc S i sz, rs pc = some S → decode cc pc = .ok (i, sz) → amSiteP pc G l own nm ds R i sz S.1 S.2.1 S.2.2.1 S.2.2.2) (hsx : ∀ pc S i sz, rx pc = some S → decode cc pc = .ok (i, sz) → amSiteX pc G l own nm ds R i sz S.1 S.2.1 S.2.2.1 S.2.2.2)
    (hhd : ∀ pc ex t, hd pc ex = some t → ∀ ls q h k z, amF G p l e R s m args below meth c nL Q t ls [.ref q] h k z → amFX G p l e R s m args below meth c nL Q pc ls ex q h k z) (hrx : ∀ pc ex q ls h k z, retX ex q h k z → amFX G p l e R s m args below meth c nL Q pc ls ex q h k z) : amCldX cc cut rx hd rs rt R.cells R.slots retX ret (amF G p l e R s m args below meth c nL Q) :=
  ⟨fun n _ _ _ _ _ _ hs => amWdX_ok hC (fun pc ls st h k z q => amWpX_ok hC hret hnm hlk hsite hsx hhd hrx n pc ls st h k z q) hret hnm hlk hsite hsx hhd hrx hs, fun _ _ _ _ _ _ _ he hk => hk.eq he, fun _ _ _ _ _ _ _ _ h1 h2 hk => hk.widen h1 h2⟩
/-- the ends of a body -/
theorem amEnd {l : Launch} {mc ms : Nat} {rt : Option FieldType} {K : Option Value → amH → Prop} (hx : p.tables.exec = Jvm.exec) (hb : c.code = cc) (hr : meth.sig.returnType = rt) (hlocks : meth.locks = false) :
    ∀ v h k z, amRet mc ms K v h k z → ∀ (H : Heap) (locs : List Loc) (lsv : Array Slot) (pc : Nat) (i : Instr), amRep G h H → va_S (amA G) s.heap H locs → decode cc pc = .ok (i, 1) → ((∃ x ty, i = .ireturn ∧ v = some (.int x) ∧ rt = some ty ∧ narrow ty (.int x) = .int x) ∨ (∃ x, i = .lreturn ∧ v = some (.long x) ∧ rt = some .long) ∨ (∃ x ty, i = .areturn ∧ v = some x ∧ amIsR x ∧ rt = some ty ∧ amMk ty = 2) ∨ (i = .return_ ∧ v = none ∧ rt = none)) → W p l e R s m args below meth c H locs k z (MQ below (amQ G K) args s mc ms (amA G)) (F0 m pc lsv (v.toList.map (amV G))) := by
  intro v h' k z hret H locs lsv pc i hR' hS hd hcase
  obtain ⟨h1, h2, h3, he, hKv⟩ := hret
  have hR3 := hR'.eq he
  refine W.widen h1 h2 ?_
  rcases hcase with ⟨x, ty, rfl, rfl, e1, e2⟩ | ⟨x, rfl, rfl, e1⟩ | ⟨x, ty, rfl, rfl, hx', e1, e2⟩ | ⟨rfl, rfl, e1⟩
  · exact W.zret (v := x) hx hb (hr.trans e1) e2 (fun t ht hW => ⟨⟨_, h3, rfl, hKv, by rw [ht]; exact hR3⟩, hS.F ht⟩) hS.2.2 hd
  · exact W.lret (v := x) hx hb (hr.trans e1) (fun t ht hW => ⟨⟨_, h3, rfl, hKv, by rw [ht]; exact hR3⟩, hS.F ht⟩) hS.2.2 hd
  · refine W.aret (v := amV G x) hx hb (hr.trans e1) ?_ ?_ (fun t ht hW => ⟨⟨_, h3, rfl, hKv, by rw [ht]; exact hR3⟩, hS.F ht⟩) hS.2.2 hd
    · cases ty with
      | object n => exact Or.inl ⟨n, rfl⟩
      | array t => exact Or.inr ⟨t, rfl⟩
      | _ => exact absurd e2 (by decide)
    · rcases hx' with rfl | ⟨a, rfl⟩
      · exact Or.inl rfl
      · exact Or.inr ⟨_, rfl⟩
  · exact W.vret hx hb (hr.trans e1) (fun t ht hW => ⟨⟨none, h3, rfl, hKv, by rw [ht]; exact hR3⟩, hS.F ht⟩) hS.2.2 hd
end AMXW
/-- the contract of a method that throws, from its body -/
theorem amMetX_of {l : Launch} {G : amG} {y : MethodName} {cc : ByteArray} {nL d mc ms : Nat} {rt : Option FieldType} {T : amXT} {cut : Nat → Bool} {rx : Nat → Option amXS} {rs : Nat → Option amS} (hy : plainName y.cls = true)
    (hsite : ∀ pc S i sz, rs pc = some S → decode cc pc = .ok (i, sz) → amSiteP pc G l y.cls y.name y.desc (amRm d mc ms) i sz S.1 S.2.1 S.2.2.1 S.2.2.2) (hsx : ∀ pc S i sz, rx pc = some S → decode cc pc = .ok (i, sz) → amSiteX pc G l y.cls y.name y.desc (amRm d mc ms) i sz S.1 S.2.1 S.2.2.1 S.2.2.2)
    (hT : ∀ as h K KX, T as h K KX → (amEn0 as).length ≤ nL ∧ ∀ F, amCldX cc cut rx (amHd []) rs rt mc ms (amRetX mc ms KX) (amRet mc ms K) F → F 0 (amEn nL as) [] h 0 0) : amMetX l G y (ws_ y cc nL rt) d mc ms T := by
  intro as h K KX hTK
  obtain ⟨hlen, hbody⟩ := hT as h K KX hTK
  refine vx_ofW (cc := cc) (maxL := nL) (ret := rt) hy rfl ?_
  intro p e s m args below meth c s₁ B hml hne hv
  obtain ⟨rfl, hR, hK⟩ := hv
  have hx := B.exec
  have hb := B.bytes
  have hr := B.returns
  have hts := atoms_spec (ws := ws_ y cc nL rt) B.pre
  have hts : ∀ w ∈ lw_all, w.before _ s = true := fun w h => hts w (List.mem_cons_of_mem _ h)
  have hown : s.vm.findClass y.cls = some m.cls := findClass_of_methodNamed B.named
  have hlocks := B.notSynchronized
  have hC : amC G y.cls cc nL p s m (as.map (amV G)).toArray c := ⟨hx, hb, hml, hown, hts, hK, amBase hR⟩
  have key := hbody (amF G p l e (headSpec (ws_ y cc nL rt) (amRm d mc ms)).room s m (as.map (amV G)).toArray below meth c nL (vx_MQ below (amQ G K) (amXC G KX) (as.map (amV G)).toArray s mc ms (amA G))) ?_
  · have hl := lv_entry (as.map (amV G)) (n := nL) (by rw [amEn0_len]; exact hlen)
    rw [lg_entry_eq]
    exact key s.heap [] _ hR va_S.rf (amEn_ok hlen hl)
  · refine amCldX_ok (R := (headSpec (ws_ y cc nL rt) (amRm d mc ms)).room) hC (fun v h' k z hret H locs lsv pc i hR' hS hd hcase => vx_ret (amEnd hx hb hr hlocks v h' k z hret H locs lsv pc i hR' hS hd hcase)) ⟨(name_of_methodNamed B.named B.method).1, B.named⟩ hlocks hsite hsx (fun pc ex t ht => by cases ht) ?_
    intro pc ex q ls h' k z hret H locs lsv rest ce hR' hS hL hce hcv hcl
    obtain ⟨h1, h2, h3, he, hKX⟩ := hret
    exact vx_out (fun x hx => (hne x hx).elim) hlocks hce hcv hcl (fun t ht hA => ⟨⟨ex, q, h3, rfl, rfl, hKX, by rw [ht]; exact hR'.eq he⟩, hS.F ht⟩) hS.2.2 h1 h2
/-- that a method's table does what the list of handlers says -/
def amHdOk (own : String) (hh : List (Nat × Nat × Nat × Nat)) (q : Nat × Nat × Nat) : Prop := ∃ (pre : List (Nat × Nat × Nat × Nat)) (x : Nat × Nat × Nat × Nat) (suf : List (Nat × Nat × Nat × Nat)) (nm : String), hh = pre ++ x :: suf ∧
  (∀ y ∈ pre, y.2.2.2 ≠ 0 ∧ ∃ nm', Cond.classLink own y.2.2.2 nm' ∈ lw_all ∧ (amEx q.2.1, nm') ∈ amNc) ∧ covers ⟨x.1, x.2.1, x.2.2.1, x.2.2.2⟩ q.1 = true ∧ x.2.2.2 ≠ 0 ∧ Cond.classLink own x.2.2.2 nm ∈ lw_all ∧ Cond.castable (amEx q.2.1) nm ∈ amGW ∧ x.2.2.1 = q.2.2
theorem amHd_mem {pc ex t : Nat} : ∀ {L : List (Nat × Nat × Nat)}, amHd L pc ex = some t → (pc, ex, t) ∈ L
  | [], h => by cases h
  | q :: L, h => by
    unfold amHd at h
    by_cases hq : pc = q.1 ∧ ex = q.2.1
    · rw [if_pos hq] at h
      obtain ⟨rfl, rfl⟩ := hq
      cases h
      exact List.mem_cons_self
    · rw [if_neg hq] at h
      exact List.mem_cons_of_mem _ (amHd_mem h)
/-- the contract of a method with handlers that lets nothing out, from its body -/
theorem amMetH_of {l : Launch} {G : amG} {y : MethodName} {cc : ByteArray} {nL d mc ms : Nat} {rt : Option FieldType} {hh : List (Nat × Nat × Nat × Nat)} {T : amT} {cut : Nat → Bool} {rx : Nat → Option amXS} {hd : List (Nat × Nat × Nat)} {rs : Nat → Option amS} (hy : plainName y.cls = true)
    (hsite : ∀ pc S i sz, rs pc = some S → decode cc pc = .ok (i, sz) → amSiteP pc G l y.cls y.name y.desc (amRm d mc ms) i sz S.1 S.2.1 S.2.2.1 S.2.2.2) (hsx : ∀ pc S i sz, rx pc = some S → decode cc pc = .ok (i, sz) → amSiteX pc G l y.cls y.name y.desc (amRm d mc ms) i sz S.1 S.2.1 S.2.2.1 S.2.2.2)
    (hcode : Cond.codeWith y cc nL rt hh ∈ lw_all) (hhd : ∀ q ∈ hd, amHdOk y.cls hh q)
    (hT : ∀ as h K, T as h K → (amEn0 as).length ≤ nL ∧ ∀ F, amCldX cc cut rx (amHd hd) rs rt mc ms (fun _ _ _ _ _ => False) (amRet mc ms K) F → F 0 (amEn nL as) [] h 0 0) : amMet l G y (wsW_ y cc nL rt hh) d mc ms T := by
  intro as h K hTK
  obtain ⟨hlen, hbody⟩ := hT as h K hTK
  refine va_MetW (cc := cc) (maxL := nL) (ret := rt) (hh := hh) hy rfl ?_
  intro p e s m args below meth c s₁ B hml hv
  obtain ⟨rfl, hR, hK⟩ := hv
  have hx := B.exec
  have hb := B.bytes
  have hr := B.returns
  have hts := atoms_spec (ws := wsW_ y cc nL rt hh) B.pre
  have hts : ∀ w ∈ lw_all, w.before _ s = true := fun w h => hts w (List.mem_cons_of_mem _ h)
  have hown : s.vm.findClass y.cls = some m.cls := findClass_of_methodNamed B.named
  have hlocks := B.notSynchronized
  have htab := vx_table (x := y) B (hts _ hcode)
  have hC : amC G y.cls cc nL p s m (as.map (amV G)).toArray c := ⟨hx, hb, hml, hown, hts, hK, amBase hR⟩
  have key := hbody (amF G p l e (headSpec (wsW_ y cc nL rt hh) (amRm d mc ms)).room s m (as.map (amV G)).toArray below meth c nL (MQ below (amQ G K) (as.map (amV G)).toArray s mc ms (amA G))) ?_
  · have hl := lv_entry (as.map (amV G)) (n := nL) (by rw [amEn0_len]; exact hlen)
    rw [lg_entry_eq]
    exact key s.heap [] _ hR va_S.rf (amEn_ok hlen hl)
  · refine amCldX_ok (R := (headSpec (wsW_ y cc nL rt hh) (amRm d mc ms)).room) hC (amEnd hx hb hr hlocks) ⟨(name_of_methodNamed B.named B.method).1, B.named⟩ hlocks hsite hsx ?_ (fun _ _ _ _ _ _ _ h => h.elim)
    intro pc ex t ht ls q h' k z hk H locs lsv rest ce hR' hS hL hce hcv hcl
    obtain ⟨pre, x, suf, nm, g1, g2, g3, g4, g5, g6, g7⟩ := hhd _ (amHd_mem ht)
    dsimp only at g2 g3 g6 g7
    refine vx_catch hown (tableOf pre) ⟨x.1, x.2.1, x.2.2.1, x.2.2.2⟩ (tableOf suf) (by rw [htab, g1]; simp [tableOf]) ?_ g3 g4 (hts _ g5) (amTb.go (amGW_mv _ g6).1 rfl (hK.2.2.2.2.2.2.2.1 _ g6)) hce hcv hcl ?_
    · intro w hw
      obtain ⟨y1, hy1, rfl⟩ := List.mem_map.mp hw
      obtain ⟨f1, nm', f2, f3⟩ := g2 y1 hy1
      exact Or.inr ⟨f1, nm', hts _ f2, hK.2.2.2.2.2.2.2.2.2.2.1 _ f3⟩
    · have := hk H locs lsv hR' hS hL
      rw [← g7] at this
      exact this
/-- a method's call that throws nothing here -/
theorem amMetX.plain {l : Launch} {G : amG} {y : MethodName} {ws : List Cond} {d mc ms : Nat} {T : amXT} (hM : amMetX l G y ws d mc ms T) : amMet l G y ws d mc ms (fun as h K => T as h K (fun _ _ _ => False)) := by
  intro as h K hT p e h1 h2 h3 s m args below h4 h5 h6 h7
  obtain ⟨n, o, g1, g2, g3, g4⟩ := hM as h K _ hT p e h1 h2 h3 s m args below h4 h5 h6 h7
  refine ⟨n, o, g1, g2, g3, ?_⟩
  rcases g4 with g4 | ⟨q, -, E, ce, L, ⟨⟨ex, q', h', -, -, hF, -⟩, -⟩, -⟩
  · exact g4
  · exact hF.elim
