/-! a lambda's own method: into it, its one call, out of it -/
set_option maxRecDepth 100000
section FWD
variable {p : Program} {l : Launch} {e : Env} {R : Room} {s : State} {m : MethodId} {args : Array Value} {below : List Frame} {meth : Method} {c : Code} {T : State} {locs : List Loc} {cells slots : Nat}
/-- the forwarder's frame at its call -/
def fwG (mk : MethodId) (a : Array Value) (pc : Nat) (st : List Value) : JFrame := { method := mk, pc := pc, locals := (entryFrame mk a 2).locals, stack := st, locked := none }
theorem fwd_call (X : Stand p l e R s m args below meth c T locs cells slots) (hexec : p.tables.exec = Jvm.exec) {g : JFrame} (hg : g.method = m) (hsize : g.locals.size = c.maxLocals) {ig : Instr} {len : Nat} (hdg : decode c.code g.pc = .ok (ig, len))
    {mk : MethodId} {methk : Method} {ck : Code} (hmk : T.vm.method? mk = some methk) (hck : methk.code = some ck) (hml : ck.maxLocals = 2) (hlk : methk.locks = false) (hpk : T.plainMethod mk)
    {ty : FieldType} (hretk : methk.sig.returnType = some ty) {a : Array Value} {R' : Room}
    (hframes : R'.frames + 1 ≤ R.frames) (hlocals : 2 * g.monitorRoom + (g.stack.map fun v => v.category).sum + (ck.maxLocals + 11) + R'.locals ≤ R.locals) (hcells : cells + R'.cells ≤ R.cells) (hslots : slots + R'.slots ≤ R.slots)
    {y : MethodName} {Pre : Pt → Array Value → Prop} {Post : Pt → Array Value → Option Value → Pt → Prop} {as : Array Value} {t : MethodId} {pcI idx : Nat} (hcall : decode ck.code pcI = .ok (.invokevirtual idx, 3)) (hret : decode ck.code (pcI + 3) = .ok (.ireturn, 1))
    (hK : Back l R' p e (.java g :: below) (T.calling g mk a) a y 3 0 Pre Post) (hyt : T.methodNamed? y = some t) (hla : (entryFrame mk a 2).locals.size = 2)
    (hpre : Pre ⟨(T.setTop g).pushFrame (.java (entryFrame mk a 2)), [], 0, 0⟩ as)
    (walk : ∀ U : State, U.vm = T.vm → U.heap = T.heap → Stand p l e R' (T.calling g mk a) mk a (.java g :: below) methk ck U [] 0 0 → ∀ target, Steps p.tables e (.java g :: below) (doInvoke e (U.setTop (fwG mk a pcI [])) [] t as).1 target → Steps p.tables e (.java g :: below) (U.setTop (entryFrame mk a 2)) target)
    (hv : ∀ v B, Post ⟨(T.setTop g).pushFrame (.java (entryFrame mk a 2)), [], 0, 0⟩ as v B → ∃ x : Int32, v = some (.int x) ∧ narrow ty (.int x) = .int x) :
    ∃ (x : Int32) (B : Pt) (T' : State), Post ⟨(T.setTop g).pushFrame (.java (entryFrame mk a 2)), [], 0, 0⟩ as (some (.int x)) B ∧ T'.heap = B.U.heap ∧ Stand p l e R s m args below meth c T' (locs ++ B.locs) (cells + B.cells) (slots + B.slots) ∧
      ∀ acts, Steps p.tables e below (doInvoke e (T.setTop g) acts mk a).1 (T'.setTop { g with pc := g.pc + len, stack := .int x :: g.stack }) := by
  obtain ⟨Y₀, hin⟩ := X.into hg hsize hdg a (R' := R') hmk hck hlk hpk hframes hlocals hcells hslots
  rw [hml] at Y₀ hin
  have hvm : ((T.setTop g).pushFrame (.java (entryFrame mk a 2))).vm = T.vm := rfl
  have hheap : ((T.setTop g).pushFrame (.java (entryFrame mk a 2))).heap = T.heap := rfl
  have hyt' : ((T.setTop g).pushFrame (.java (entryFrame mk a 2))).methodNamed? y = some t := hyt
  generalize hU : (T.setTop g).pushFrame (.java (entryFrame mk a 2)) = U at Y₀ hin hvm hheap hpre hv hyt' ⊢
  obtain ⟨v, B, Y₁, hpost, hsteps⟩ := hK mk methk ck ⟨U, [], 0, 0⟩ (fwG mk a pcI []) (.invokevirtual idx) t as Y₀ rfl (by rw [hml]; exact hla) hcall (by show 2 * 0 + 0 ≤ 0; decide) hyt' hpre
  obtain ⟨x, rfl, hnar⟩ := hv v B hpost
  obtain ⟨fs, hleave, -, hended, hWe, hsame⟩ := Y₁.leave (v := some (.int x)) (fun h => by rw [hretk] at h; cases h) hlk
  obtain ⟨T', X', hW', -, ht⟩ := X.outOf hg hdg hended hWe hsame
  refine ⟨x, B, T', hpost, ?_, X', fun acts => ?_⟩
  · have := congrArg State.heap ht
    exact this.symm
  · rw [hin acts]
    show Steps p.tables e below _ (T'.setTop { g with pc := g.pc + len, stack := (some (Value.int x)).toList ++ g.stack })
    rw [← ht]
    refine Steps.weaken (mid := [.java g]) ?_
    refine walk U hvm hheap Y₀ _ (hsteps.trans ?_)
    show Steps p.tables e (.java g :: below) (B.U.setTop (fwG mk a (pcI + 3) [.int x])) _
    have hm' := Y₁.method'
    have hh : At B.U (fwG mk a (pcI + 3) [.int x]).method ck (.java g :: below) := Y₁.here
    jvm_step hh [Y₁.here.top, hexec, hret, fwG]
    refine ⟨methk, hm', ty, hretk, fun acts'' => ?_⟩
    rw [hnar]
    show Steps p.tables e (.java g :: below) (doReturn e (B.U.setTop (fwG mk a (pcI + 3) [])) acts'' (some (Value.int x))).1 _
    rw [hleave (fwG mk a (pcI + 3) []) acts'' rfl rfl rfl]
    exact Steps.refl _
end FWD
