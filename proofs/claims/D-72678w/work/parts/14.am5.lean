/-! AM: the conditions of a run, computed: amStp an instruction, amWp so many of them up to a cut; that they suffice: amStp_ok, amWp_ok -/
set_option maxRecDepth 100000
abbrev amS : Type := Nat × Nat × Nat × amT
abbrev amX : Type := Nat → List Value → List Value → amH → Nat → Nat → Prop
def amP1 (st : List Value) (f : Int32 → List Value → Prop) : Prop := match st with
  | .int a :: r => f a r
  | _ => False
def amP2 (st : List Value) (f : Int32 → Int32 → List Value → Prop) : Prop := match st with
  | .int b :: .int a :: r => f a b r
  | _ => False
def amL1 (st : List Value) (f : Int64 → List Value → Prop) : Prop := match st with
  | .long a :: r => f a r
  | _ => False
def amL2 (st : List Value) (f : Int64 → Int64 → List Value → Prop) : Prop := match st with
  | .long b :: .long a :: r => f a b r
  | _ => False
def amA1 (st : List Value) (f : Int32 → Nat → List Value → Prop) : Prop := match st with
  | .int i :: .ref a :: r => f i a r
  | _ => False
def amIsR (v : Value) : Prop := v = .null ∨ ∃ a, v = .ref a
def amJ (pc : Nat) (off : Int) (X : Nat → Prop) : Prop := match (pc : Int) + off with
  | .ofNat t => X t
  | .negSucc _ => False
def amLdI (ls : List Value) (i : Nat) (f : Int32 → Prop) : Prop := match ls[i]? with
  | some (.int x) => f x
  | _ => False
def amLdL (ls : List Value) (i : Nat) (f : Int64 → Prop) : Prop := match ls[i]? with
  | some (.long x) => f x
  | _ => False
def amLdA (ls : List Value) (i : Nat) (f : Value → Prop) : Prop := match ls[i]? with
  | some v => amIsR v ∧ f v
  | none => False
def amAk (t : ArrayType) : Nat := match t with
  | .int => 1 | .byte => 2 | .char => 3 | .short => 4 | .long => 5 | _ => 0
/-- a switch over known numbers -/
def amSw (x : Int32) (pc : Nat) (X : Nat → Prop) (d : Int) : List (Int × Int) → Prop
  | [] => amJ pc d X
  | (v, o) :: t => (x = Int32.ofInt v → amJ pc o X) ∧ (¬ x = Int32.ofInt v → amSw x pc X d t)
def amTab (lo : Int) : List Int → List (Int × Int)
  | [] => []
  | o :: t => (lo, o) :: amTab (lo + 1) t
/-- one instruction -/
def amStp (rs : Nat → Option amS) (rt : Option FieldType) (Rc Rs : Nat) (ret : Option Value → amH → Nat → Nat → Prop) (X : amX) (i : Instr) (sz pc : Nat) (ls st : List Value) (h : amH) (k z : Nat) : Prop := match i with
  | .aconst_null => X (pc + sz) ls (.null :: st) h k z
  | .iconst n => X (pc + sz) ls (.int (Int32.ofInt n) :: st) h k z
  | .bipush n => X (pc + sz) ls (.int (Int8.ofInt n).toInt32 :: st) h k z
  | .sipush n => X (pc + sz) ls (.int (Int16.ofInt n).toInt32 :: st) h k z
  | .lconst n => X (pc + sz) ls (.long (Int64.ofNat (n : Nat)) :: st) h k z
  | .iload_n i => amLdI ls i fun x => X (pc + sz) ls (.int x :: st) h k z
  | .iload i => amLdI ls i fun x => X (pc + sz) ls (.int x :: st) h k z
  | .lload_n i => amLdL ls i fun x => X (pc + sz) ls (.long x :: st) h k z
  | .lload i => amLdL ls i fun x => X (pc + sz) ls (.long x :: st) h k z
  | .aload_n i => amLdA ls i fun x => X (pc + sz) ls (x :: st) h k z
  | .aload i => amLdA ls i fun x => X (pc + sz) ls (x :: st) h k z
  | .istore_n i => amP1 st fun x r => (i : Nat) < ls.length ∧ X (pc + sz) (amSet ls i (.int x)) r h k z
  | .istore i => amP1 st fun x r => i < ls.length ∧ X (pc + sz) (amSet ls i (.int x)) r h k z
  | .astore_n i => (match st with
    | v :: r => amIsR v ∧ (i : Nat) < ls.length ∧ X (pc + sz) (amSet ls i v) r h k z
    | [] => False)
  | .astore i => (match st with
    | v :: r => amIsR v ∧ i < ls.length ∧ X (pc + sz) (amSet ls i v) r h k z
    | [] => False)
  | .iinc i n => amLdI ls i fun x => X (pc + sz) (amSet ls i (.int (x + Int32.ofInt n))) st h k z
  | .dup => (match st with
    | v :: r => v.category = 1 ∧ X (pc + sz) ls (v :: v :: r) h k z
    | [] => False)
  | .dup_x1 => (match st with
    | v :: w :: r => v.category = 1 ∧ w.category = 1 ∧ X (pc + sz) ls (v :: w :: v :: r) h k z
    | _ => False)
  | .dup2 => (match st with
    | v :: w :: r => v.category = 1 ∧ w.category = 1 ∧ X (pc + sz) ls (v :: w :: v :: w :: r) h k z
    | _ => False)
  | .pop => (match st with
    | v :: r => v.category = 1 ∧ X (pc + sz) ls r h k z
    | [] => False)
  | .iadd => amP2 st fun a b r => X (pc + sz) ls (.int (a + b) :: r) h k z
  | .isub => amP2 st fun a b r => X (pc + sz) ls (.int (a - b) :: r) h k z
  | .imul => amP2 st fun a b r => X (pc + sz) ls (.int (a * b) :: r) h k z
  | .iand => amP2 st fun a b r => X (pc + sz) ls (.int (a &&& b) :: r) h k z
  | .ior => amP2 st fun a b r => X (pc + sz) ls (.int (a ||| b) :: r) h k z
  | .ixor => amP2 st fun a b r => X (pc + sz) ls (.int (a ^^^ b) :: r) h k z
  | .ishl => amP2 st fun a b r => X (pc + sz) ls (.int (a <<< (b &&& 31)) :: r) h k z
  | .ishr => amP2 st fun a b r => X (pc + sz) ls (.int (a >>> (b &&& 31)) :: r) h k z
  | .iushr => amP2 st fun a b r => X (pc + sz) ls (.int ((a.toUInt32 >>> (b.toUInt32 &&& Int32.toUInt32 31)).toInt32) :: r) h k z
  | .idiv => amP2 st fun a b r => ¬ b = 0 ∧ X (pc + sz) ls (.int (a / b) :: r) h k z
  | .irem => amP2 st fun a b r => ¬ b = 0 ∧ X (pc + sz) ls (.int (a - a / b * b) :: r) h k z
  | .ineg => amP1 st fun a r => X (pc + sz) ls (.int (-a) :: r) h k z
  | .ladd => amL2 st fun a b r => X (pc + sz) ls (.long (a + b) :: r) h k z
  | .lmul => amL2 st fun a b r => X (pc + sz) ls (.long (a * b) :: r) h k z
  | .land => amL2 st fun a b r => X (pc + sz) ls (.long (a &&& b) :: r) h k z
  | .lor => amL2 st fun a b r => X (pc + sz) ls (.long (a ||| b) :: r) h k z
  | .lshl => (match st with
    | .int b :: .long a :: r => X (pc + sz) ls (.long (a <<< (b.toInt64 &&& 63)) :: r) h k z
    | _ => False)
  | .lcmp => amL2 st fun a b r => X (pc + sz) ls (.int (lg_cmp a b) :: r) h k z
  | .i2l => amP1 st fun a r => X (pc + sz) ls (.long a.toInt64 :: r) h k z
  | .l2i => amL1 st fun a r => X (pc + sz) ls (.int a.toInt32 :: r) h k z
  | .i2b => amP1 st fun a r => X (pc + sz) ls (.int a.toInt8.toInt32 :: r) h k z
  | .i2c => amP1 st fun a r => X (pc + sz) ls (.int (a.toUInt32 % 65536).toInt32 :: r) h k z
  | .i2s => amP1 st fun a r => X (pc + sz) ls (.int a.toInt16.toInt32 :: r) h k z
  | .goto off => amJ pc off fun t => X t ls st h k z
  | .ifCond cnd off => amJ pc off fun t => amP1 st fun a r => (match cnd with
    | .eq => (a = 0 → X t ls r h k z) ∧ (¬ a = 0 → X (pc + sz) ls r h k z)
    | .ne => (¬ a = 0 → X t ls r h k z) ∧ (a = 0 → X (pc + sz) ls r h k z)
    | .lt => (a < 0 → X t ls r h k z) ∧ (¬ a < 0 → X (pc + sz) ls r h k z)
    | .ge => (0 ≤ a → X t ls r h k z) ∧ (¬ 0 ≤ a → X (pc + sz) ls r h k z)
    | .gt => (0 < a → X t ls r h k z) ∧ (¬ 0 < a → X (pc + sz) ls r h k z)
    | .le => (a ≤ 0 → X t ls r h k z) ∧ (¬ a ≤ 0 → X (pc + sz) ls r h k z)
    )
  | .if_icmp cnd off => amJ pc off fun t => amP2 st fun a b r => (match cnd with
    | .eq => (a = b → X t ls r h k z) ∧ (¬ a = b → X (pc + sz) ls r h k z)
    | .ne => (¬ a = b → X t ls r h k z) ∧ (a = b → X (pc + sz) ls r h k z)
    | .lt => (a < b → X t ls r h k z) ∧ (¬ a < b → X (pc + sz) ls r h k z)
    | .ge => (b ≤ a → X t ls r h k z) ∧ (¬ b ≤ a → X (pc + sz) ls r h k z)
    | .gt => (b < a → X t ls r h k z) ∧ (¬ b < a → X (pc + sz) ls r h k z)
    | .le => (a ≤ b → X t ls r h k z) ∧ (¬ a ≤ b → X (pc + sz) ls r h k z)
    )
  | .ifnull off => (match st with
    | .null :: r => amJ pc off fun t => X t ls r h k z
    | .ref _ :: r => X (pc + sz) ls r h k z
    | _ => False)
  | .ifnonnull off => (match st with
    | .ref _ :: r => amJ pc off fun t => X t ls r h k z
    | .null :: r => X (pc + sz) ls r h k z
    | _ => False)
  | .if_acmp cnd off => (match cnd, st with
    | .ne, .ref b :: .ref a :: r => (amN0 ≤ a ∧ b ≠ a) ∧ amJ pc off fun t => X t ls r h k z
    | _, _ => False)
  | .lookupswitch d ps => amP1 st fun x r => (ps.toList.zip (ps.toList.drop 1)).all (fun (a, next) => a.1 < next.1) = true ∧ (∀ q ∈ ps.toList, (Int32.ofInt q.1).toInt = q.1) ∧ amSw x pc (fun t => X t ls r h k z) d ps.toList
  | .tableswitch d lo hi offs => amP1 st fun x r => hi = lo + offs.size - 1 ∧ (∀ q ∈ amTab lo offs.toList, (Int32.ofInt q.1).toInt = q.1) ∧ amSw x pc (fun t => X t ls r h k z) d (amTab lo offs.toList)
  | .arraylength => (match st with
    | .ref a :: r => 1 ≤ (h.1 a).1 ∧ (h.1 a).1 ≤ 8 ∧ X (pc + sz) ls (.int (nI (h.1 a).2) :: r) h k z
    | _ => False)
  | .iaload => amA1 st fun i a r => (h.1 a).1 = 1 ∧ vp_in i (h.1 a).2 ∧ X (pc + sz) ls (.int (h.2.1 a i.toNatClampNeg) :: r) h k z
  | .baload => amA1 st fun i a r => (h.1 a).1 = 2 ∧ vp_in i (h.1 a).2 ∧ X (pc + sz) ls (.int (h.2.1 a i.toNatClampNeg) :: r) h k z
  | .caload => amA1 st fun i a r => (h.1 a).1 = 3 ∧ vp_in i (h.1 a).2 ∧ X (pc + sz) ls (.int (h.2.1 a i.toNatClampNeg) :: r) h k z
  | .saload => amA1 st fun i a r => (h.1 a).1 = 4 ∧ vp_in i (h.1 a).2 ∧ X (pc + sz) ls (.int (h.2.1 a i.toNatClampNeg) :: r) h k z
  | .laload => amA1 st fun i a r => (h.1 a).1 = 5 ∧ vp_in i (h.1 a).2 ∧ X (pc + sz) ls (.long (h.2.2.1 a i.toNatClampNeg) :: r) h k z
  | .aaload => amA1 st fun i a r => 6 ≤ (h.1 a).1 ∧ (h.1 a).1 ≤ 8 ∧ vp_in i (h.1 a).2 ∧ X (pc + sz) ls (va_rf (h.2.2.2.1 a i.toNatClampNeg) :: r) h k z
  | .iastore => (match st with
    | .int x :: .int i :: .ref a :: r => (h.1 a).1 = 1 ∧ vp_in i (h.1 a).2 ∧ amN0 ≤ a ∧ X (pc + sz) ls r (amWr h a i.toNatClampNeg (.int x)) k z
    | _ => False)
  | .bastore => (match st with
    | .int x :: .int i :: .ref a :: r => (h.1 a).1 = 2 ∧ vp_in i (h.1 a).2 ∧ amN0 ≤ a ∧ X (pc + sz) ls r (amWr h a i.toNatClampNeg (.int (vp_nar .byte x))) k z
    | _ => False)
  | .castore => (match st with
    | .int x :: .int i :: .ref a :: r => (h.1 a).1 = 3 ∧ vp_in i (h.1 a).2 ∧ amN0 ≤ a ∧ X (pc + sz) ls r (amWr h a i.toNatClampNeg (.int (vp_nar .char x))) k z
    | _ => False)
  | .sastore => (match st with
    | .int x :: .int i :: .ref a :: r => (h.1 a).1 = 4 ∧ vp_in i (h.1 a).2 ∧ amN0 ≤ a ∧ X (pc + sz) ls r (amWr h a i.toNatClampNeg (.int (vp_nar .short x))) k z
    | _ => False)
  | .lastore => (match st with
    | .long x :: .int i :: .ref a :: r => (h.1 a).1 = 5 ∧ vp_in i (h.1 a).2 ∧ amN0 ≤ a ∧ X (pc + sz) ls r (amWr h a i.toNatClampNeg (.long x)) k z
    | _ => False)
  | .newarray t => amP1 st fun n r => 1 ≤ amAk t ∧ ¬ n < 0 ∧ n.toNatClampNeg ≤ 67108864 ∧ k + 1 ≤ Rc ∧ z + n.toNatClampNeg ≤ Rs ∧ X (pc + sz) ls (.ref h.2.2.2.2 :: r) (amNew h (amAk t, n.toNatClampNeg)) (k + 1) (z + n.toNatClampNeg)
  | .ireturn => (match st with
    | [.int v] => (∃ ty, rt = some ty ∧ narrow ty (.int v) = .int v) ∧ ret (some (.int v)) h k z
    | _ => False)
  | .lreturn => (match st with
    | [.long v] => rt = some .long ∧ ret (some (.long v)) h k z
    | _ => False)
  | .areturn => (match st with
    | [v] => (∃ ty, rt = some ty ∧ amMk ty = 2) ∧ amIsR v ∧ ret (some v) h k z
    | _ => False)
  | .return_ => (match st with
    | [] => rt = none ∧ ret none h k z
    | _ => False)
  | _ => (match rs pc with
    | some (n, mc, ms, T) => n ≤ st.length ∧ (st.drop n).length ≤ 4 ∧ k + mc ≤ Rc ∧ z + ms ≤ Rs ∧ T (st.take n).reverse h (fun v h' => X (pc + sz) ls (v.toList ++ st.drop n) h' (k + mc) (z + ms))
    | none => False)
/-- so many instructions, up to a cut (amWp), or from a cut on (amWs) -/
def amSz (i : Instr) (sz : Nat) : Bool := match i with
  | .bipush _ => sz == 2 | .iload _ => sz == 2 | .lload _ => sz == 2 | .aload _ => sz == 2 | .istore _ => sz == 2 | .astore _ => sz == 2 | .newarray _ => sz == 2
  | .sipush _ => sz == 3 | .iinc _ _ => sz == 3 | .goto _ => sz == 3 | .ifCond _ _ => sz == 3 | .if_icmp _ _ => sz == 3 | .ifnull _ => sz == 3 | .ifnonnull _ => sz == 3 | .if_acmp _ _ => sz == 3
  | .aconst_null => sz == 1 | .iconst _ => sz == 1 | .lconst _ => sz == 1 | .iload_n _ => sz == 1 | .lload_n _ => sz == 1 | .aload_n _ => sz == 1 | .istore_n _ => sz == 1 | .astore_n _ => sz == 1
  | .dup => sz == 1 | .dup_x1 => sz == 1 | .dup2 => sz == 1 | .pop => sz == 1 | .iadd => sz == 1 | .isub => sz == 1 | .imul => sz == 1 | .iand => sz == 1 | .ior => sz == 1 | .ixor => sz == 1 | .ishl => sz == 1 | .ishr => sz == 1 | .iushr => sz == 1 | .idiv => sz == 1 | .irem => sz == 1 | .ineg => sz == 1
  | .ladd => sz == 1 | .lmul => sz == 1 | .land => sz == 1 | .lor => sz == 1 | .lshl => sz == 1 | .lcmp => sz == 1 | .i2l => sz == 1 | .l2i => sz == 1 | .i2b => sz == 1 | .i2c => sz == 1 | .i2s => sz == 1
  | .arraylength => sz == 1 | .iaload => sz == 1 | .baload => sz == 1 | .caload => sz == 1 | .saload => sz == 1 | .laload => sz == 1 | .aaload => sz == 1 | .iastore => sz == 1 | .bastore => sz == 1 | .castore => sz == 1 | .sastore => sz == 1 | .lastore => sz == 1
  | .ireturn => sz == 1 | .lreturn => sz == 1 | .areturn => sz == 1 | .return_ => sz == 1
  | _ => true
def amWd (rs : Nat → Option amS) (rt : Option FieldType) (Rc Rs : Nat) (ret : Option Value → amH → Nat → Nat → Prop) (X : amX) (di : Except DecodeError (Instr × Nat)) (pc : Nat) (ls st : List Value) (h : amH) (k z : Nat) : Prop := match di with
  | .ok (i, sz) => if amSz i sz = true then amStp rs rt Rc Rs ret X i sz pc ls st h k z else False
  | .error _ => False
def amWp (cc : ByteArray) (cut : Nat → Bool) (rs : Nat → Option amS) (rt : Option FieldType) (Rc Rs : Nat) (ret : Option Value → amH → Nat → Nat → Prop) (F : amX) : Nat → amX
  | 0 => F
  | n + 1 => fun pc ls st h k z => if cut pc = true then F pc ls st h k z else amWd rs rt Rc Rs ret (amWp cc cut rs rt Rc Rs ret F n) (decode cc pc) pc ls st h k z
def amWs (cc : ByteArray) (cut : Nat → Bool) (rs : Nat → Option amS) (rt : Option FieldType) (Rc Rs : Nat) (ret : Option Value → amH → Nat → Nat → Prop) (F : amX) (n : Nat) : amX :=
  fun pc ls st h k z => amWd rs rt Rc Rs ret (amWp cc cut rs rt Rc Rs ret F n) (decode cc pc) pc ls st h k z
theorem amWp_dec {cc : ByteArray} {cut : Nat → Bool} {rs : Nat → Option amS} {rt : Option FieldType} {Rc Rs : Nat} {ret : Option Value → amH → Nat → Nat → Prop} {F : amX} {n pc : Nat} {ls st : List Value} {h : amH} {k z : Nat} {i : Instr} {sz : Nat} (hc : cut pc = false) (hd : decode cc pc = .ok (i, sz)) (hz : amSz i sz = true) :
    amWp cc cut rs rt Rc Rs ret F (n + 1) pc ls st h k z = amStp rs rt Rc Rs ret (amWp cc cut rs rt Rc Rs ret F n) i sz pc ls st h k z := by
  show (if cut pc = true then _ else amWd rs rt Rc Rs ret _ (decode cc pc) pc ls st h k z) = _
  rw [if_neg (by rw [hc]; decide), hd]
  exact if_pos hz
theorem amWp_cut {cc : ByteArray} {cut : Nat → Bool} {rs : Nat → Option amS} {rt : Option FieldType} {Rc Rs : Nat} {ret : Option Value → amH → Nat → Nat → Prop} {F : amX} {n pc : Nat} {ls st : List Value} {h : amH} {k z : Nat} (hc : cut pc = true) :
    amWp cc cut rs rt Rc Rs ret F (n + 1) pc ls st h k z = F pc ls st h k z := by
  show (if cut pc = true then _ else _) = _
  rw [if_pos hc]
theorem amWs_dec {cc : ByteArray} {cut : Nat → Bool} {rs : Nat → Option amS} {rt : Option FieldType} {Rc Rs : Nat} {ret : Option Value → amH → Nat → Nat → Prop} {F : amX} {n pc : Nat} {ls st : List Value} {h : amH} {k z : Nat} {i : Instr} {sz : Nat} (hd : decode cc pc = .ok (i, sz)) (hz : amSz i sz = true) :
    amWs cc cut rs rt Rc Rs ret F n pc ls st h k z = amStp rs rt Rc Rs ret (amWp cc cut rs rt Rc Rs ret F n) i sz pc ls st h k z := by
  show amWd rs rt Rc Rs ret _ (decode cc pc) pc ls st h k z = _
  rw [hd]
  exact if_pos hz

