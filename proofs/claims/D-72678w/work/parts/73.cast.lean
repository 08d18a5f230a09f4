/-! AM: rows of a lane: instanceof, checkcast -/
set_option maxRecDepth 100000
abbrev amAr (kd : Nat) : Prop := kd = 1 ∨ kd = 2 ∨ kd = 4 ∨ kd = 5
def amArN (kd : Nat) : String := match kd with | 1 => "[I" | 2 => "[B" | 4 => "[S" | _ => "[J"
theorem amArCls {G : amG} {s : State} (hK : amKn G s) {kd : Nat} (h : amAr kd) : s.vm.findClass (amArN kd) = some (G.2.1 kd) := by
  have key : ∀ (t : FieldType) (nm : String), "[" ++ t.toString = nm → s.vm.findClass ("[" ++ t.toString) = some (G.2.1 kd) → s.vm.findClass nm = some (G.2.1 kd) := fun t nm e q => by rw [← e]; exact q
  rcases h with rfl | rfl | rfl | rfl
  · exact key .int "[I" (by decide +kernel) (amArrT hK (k := 1) (by omega) (by omega)).2
  · exact key .byte "[B" (by decide +kernel) (amArrT hK (k := 2) (by omega) (by omega)).2
  · exact key .short "[S" (by decide +kernel) (amArrT hK (k := 4) (by omega) (by omega)).2
  · exact key .long "[J" (by decide +kernel) (amArrT hK (k := 5) (by omega) (by omega)).2
theorem amArNc {G : amG} {s : State} (hK : amKn G s) {k1 k2 : Nat} (h1 : amAr k1) (h2 : amAr k2) (hne : ¬ k1 = k2) : va_Nc (amArN k1) (amArN k2) s := by
  refine hK.2.2.2.2.2.2.2.2.2.2.1 (amArN k1, amArN k2) ?_
  rcases h1 with rfl | rfl | rfl | rfl <;> rcases h2 with rfl | rfl | rfl | rfl <;> first | exact absurd rfl hne | decide +kernel
/-- an array's cell, its class by name -/
theorem amArCell {G : amG} {s : State} {h : amH} {H : Heap} {a : Nat} (hK : amKn G s) (hR : amRep G h H) (h1 : amAr (h.1 a).1) : ∃ cell : Cell, H[amAd G a]? = some cell ∧ cell.vm.isStatics = false ∧ s.vm.findClass (amArN (h.1 a).1) = some cell.cls := by
  have hc := hR.arr (a := a) (k := (h.1 a).1) (n := (h.1 a).2) rfl (by omega) (by omega)
  obtain ⟨ce, c1, ⟨c2, c3, c4, c5⟩, -⟩ := hc.1
  exact ⟨ce, c1, c4, by rw [c2]; exact amArCls hK h1⟩
def amTinst (kd : Nat) : amT := fun as h K => match as with
  | [.ref a] => amAr (h.1 a).1 ∧ ((h.1 a).1 = kd → K (some (.int 1)) h) ∧ (¬ (h.1 a).1 = kd → K (some (.int 0)) h)
  | _ => False
def amTcst (kd : Nat) : amT := fun as h K => match as with
  | [.ref a] => (h.1 a).1 = kd ∧ K (some (.ref a)) h
  | _ => False
def amTcast (kd : Nat) : amXT := fun as h K KX => match as with
  | [.null] => K (some .null) h
  | [.ref a] => amAr (h.1 a).1 ∧ ((h.1 a).1 = kd → K (some (.ref a)) h) ∧ (¬ (h.1 a).1 = kd → ∀ q d, KX 2 q (amMore h d))
  | _ => False
/-- what a class that is found by its name is -/
theorem amFc {vm : Vm} {name : String} {c : ClassId} (h : vm.findClass name = some c) : ∃ k, vm.classes[c]? = some k ∧ k.name = name ∧ k.hidden = none ∧ k.loader = none := by
  obtain ⟨hlt, hp, _⟩ := Array.findIdx?_eq_some_iff_getElem.mp h
  refine ⟨vm.classes[c], by simp [hlt], ?_⟩
  simp only [Bool.and_eq_true, beq_iff_eq, Option.isNone_iff_eq_none] at hp
  exact ⟨hp.1.1.1, hp.1.1.2, hp.2⟩
/-- where an array of numbers lives, in words -/
def amHm (f : Bool) : String := (if f then "module java.base" else "unnamed module") ++ " of loader " ++ "'bootstrap'"
theorem amHome {vm : Vm} {k : Class} {kd : Nat} (h1 : amAr kd) (hn : k.name = amArN kd) (hl : k.loader = none) {comp : ClassId} {t : FieldType} (hk : k.kind = .array comp t) : ∃ f, vm.home k = amHm f := by
  have hp : k.ofPrimitives = true := by
    unfold Class.ofPrimitives
    rw [hk, hn]
    show ((withoutBrackets (amArN kd)).length == 1) = true
    rcases h1 with rfl | rfl | rfl | rfl <;> decide +kernel
  unfold Vm.home Vm.moduleOf
  rw [hp, hl, if_pos rfl]
  cases hf : vm.modules.find? (fun x => x.name == "java.base") with
  | none => exact ⟨false, rfl⟩
  | some m =>
    have := List.find?_some hf
    simp only [beq_iff_eq] at this
    refine ⟨true, ?_⟩
    show ("module " ++ m.name) ++ " of loader " ++ "'bootstrap'" = _
    rw [this]
    decide +kernel
def amCastS (a b : String) (f1 f2 f3 : Bool) : String := toString "class " ++ toString a ++ toString " cannot be cast to class " ++ toString b ++ toString " (" ++ toString (if f3 then toString a ++ toString " and " ++ toString b ++ toString " are in " ++ toString (amHm f1) else toString a ++ toString " is in " ++ toString (amHm f1) ++ toString "; " ++ toString b ++ toString " is in " ++ toString (amHm f2)) ++ toString ")"
theorem amHmLen (f : Bool) : (amHm f).toList.length ≤ 40 := by
  have a1 : "module java.base".toList.length = 16 := by decide
  have a2 : "unnamed module".toList.length = 14 := by decide
  have a3 : " of loader ".toList.length = 11 := by decide
  have a4 : "'bootstrap'".toList.length = 11 := by decide
  cases f
  · show ("unnamed module" ++ " of loader " ++ "'bootstrap'").toList.length ≤ 40
    simp only [String.toList_append, List.length_append]
    omega
  · show ("module java.base" ++ " of loader " ++ "'bootstrap'").toList.length ≤ 40
    simp only [String.toList_append, List.length_append]
    omega
theorem amDotLen {k : Nat} (h : amAr k) : (dotted (amArN k)).toList.length = 2 := by
  rcases h with rfl | rfl | rfl | rfl <;> decide +kernel
theorem amCastS_ok {k1 k2 : Nat} (h1 : amAr k1) (h2 : amAr k2) (f1 f2 f3 : Bool) : (amCastS (dotted (amArN k1)) (dotted (amArN k2)) f1 f2 f3 == notModelled) = false ∧ (amCastS (dotted (amArN k1)) (dotted (amArN k2)) f1 f2 f3).toList.length ≤ 150 := by
  have l1 := amDotLen h1
  have l2 := amDotLen h2
  have l3 := amHmLen f1
  have l4 := amHmLen f2
  have a1 : (toString "class ").toList.length = 6 := by decide
  have a2 : (toString " cannot be cast to class ").toList.length = 25 := by decide
  have a3 : (toString " (").toList.length = 2 := by decide
  have a4 : (toString " and ").toList.length = 5 := by decide
  have a5 : (toString " are in ").toList.length = 8 := by decide
  have a6 : (toString " is in ").toList.length = 7 := by decide
  have a7 : (toString "; ").toList.length = 2 := by decide
  have a8 : (toString ")").toList.length = 1 := by decide
  generalize dotted (amArN k1) = d1 at l1
  generalize dotted (amArN k2) = d2 at l2
  generalize hg1 : amHm f1 = m1 at l3
  generalize hg2 : amHm f2 = m2 at l4
  refine ⟨?_, ?_⟩
  · rw [beq_eq_false_iff_ne]
    intro h
    have h2 := congrArg String.toList h
    have h3 : (amCastS d1 d2 f1 f2 f3).toList = 'c' :: ("lass ".toList ++ (toString d1).toList ++ (toString " cannot be cast to class ").toList ++ (toString d2).toList ++ (toString " (").toList ++ (toString (if f3 then toString d1 ++ toString " and " ++ toString d2 ++ toString " are in " ++ toString (amHm f1) else toString d1 ++ toString " is in " ++ toString (amHm f1) ++ toString "; " ++ toString d2 ++ toString " is in " ++ toString (amHm f2))).toList ++ (toString ")").toList) := by
      unfold amCastS
      simp only [String.toList_append]
      rfl
    rw [h3] at h2
    have h4 : notModelled.toList = '\u0000' :: " a message that is not modelled".toList := by decide
    rw [h4] at h2
    simp at h2
  · unfold amCastS
    rw [hg1, hg2]
    cases f3
    · rw [if_neg (by decide)]
      simp only [String.toList_append, List.length_append, a1, a2, a3, a6, a7, a8]
      show _ + d1.toList.length + _ + d2.toList.length + _ + (toString (toString d1 ++ toString " is in " ++ toString m1 ++ toString "; " ++ toString d2 ++ toString " is in " ++ toString m2)).toList.length + _ ≤ 150
      have e : (toString (toString d1 ++ toString " is in " ++ toString m1 ++ toString "; " ++ toString d2 ++ toString " is in " ++ toString m2)).toList.length = d1.toList.length + 7 + m1.toList.length + 2 + d2.toList.length + 7 + m2.toList.length := by
        show (toString d1 ++ toString " is in " ++ toString m1 ++ toString "; " ++ toString d2 ++ toString " is in " ++ toString m2).toList.length = _
        simp only [String.toList_append, List.length_append, a6, a7]
        rfl
      omega
    · rw [if_pos rfl]
      simp only [String.toList_append, List.length_append, a1, a2, a3, a8]
      show _ + d1.toList.length + _ + d2.toList.length + _ + (toString (toString d1 ++ toString " and " ++ toString d2 ++ toString " are in " ++ toString m1)).toList.length + _ ≤ 150
      have e : (toString (toString d1 ++ toString " and " ++ toString d2 ++ toString " are in " ++ toString m1)).toList.length = d1.toList.length + 5 + d2.toList.length + 8 + m1.toList.length := by
        show (toString d1 ++ toString " and " ++ toString d2 ++ toString " are in " ++ toString m1).toList.length = _
        simp only [String.toList_append, List.length_append, a4, a5]
        rfl
      omega
theorem amCastM {vm : Vm} {a b : Class} {k1 k2 : Nat} (h1 : amAr k1) (h2 : amAr k2) (n1 : a.name = amArN k1) (n2 : b.name = amArN k2) (d1 : a.hidden = none) (d2 : b.hidden = none) (l1 : a.loader = none) (l2 : b.loader = none) {c1 c2 : ClassId} {t1 t2 : FieldType} (q1 : a.kind = .array c1 t1) (q2 : b.kind = .array c2 t2) :
    (Op.checkcast.message vm a b == notModelled) = false ∧ (stringBytes (stringToUtf16 (Op.checkcast.message vm a b))).size ≤ 600 := by
  obtain ⟨f1, e1⟩ := amHome (vm := vm) h1 n1 l1 q1
  obtain ⟨f2, e2⟩ := amHome (vm := vm) h2 n2 l2 q2
  have s1 : a.shown = dotted (amArN k1) := by unfold Class.shown; rw [d1, n1]
  have s2 : b.shown = dotted (amArN k2) := by unfold Class.shown; rw [d2, n2]
  have e : Op.checkcast.message vm a b = amCastS (dotted (amArN k1)) (dotted (amArN k2)) f1 f2 (vm.sameModule a b) := by
    unfold Op.checkcast.message Vm.homes amCastS
    rw [s1, s2, e1, e2]
  rw [e]
  obtain ⟨r1, r2⟩ := amCastS_ok h1 h2 f1 f2 (vm.sameModule a b)
  have b1 := stringBytes_size_le (stringToUtf16 (amCastS (dotted (amArN k1)) (dotted (amArN k2)) f1 f2 (vm.sameModule a b)))
  have b2 := utf16_size_le (amCastS (dotted (amArN k1)) (dotted (amArN k2)) f1 f2 (vm.sameModule a b))
  exact ⟨r1, by omega⟩
section
variable {p : Program} {l : Launch} {e : Env} {R : Room} {s : State} {m : MethodId} {args : Array Value} {below : List Frame} {meth : Method} {c : Code} {H : Heap} {locs : List Loc} {cells slots : Nat} {Q : State → Prop}
/-- a cast that fails: up to the machine's note -/
theorem amCastNo {T : State} (X : Stand p l e R s m args below meth c T locs cells slots) (hexec : p.tables.exec = Jvm.exec)
    {own name : String} {index : Nat} (hown : s.vm.findClass own = some m.cls) (hlink : (Cond.classLink own index name).before args s = true)
    {a : Addr} {cell : Cell} {cT : ClassId} {ks kt : Class} (hcell : T.heap[a]? = some cell) (hobj : cell.vm.isStatics = false) (hks : s.vm.classes[cell.cls]? = some ks) (hcT : s.vm.findClass name = some cT) (hkt : s.vm.classes[cT]? = some kt) (hasg : s.vm.assignable cell.cls cT = false)
    {g : JFrame} (hg : g.method = m) {rest : List Value} (hstack : g.stack = .ref a :: rest) (hdg : decode c.code g.pc = .ok (.checkcast index, 3)) :
    ∃ (vm' : Vm) (ks' kt' : Class), s.vm.Alike vm' ∧ vm'.classes[cell.cls]? = some ks' ∧ vm'.classes[cT]? = some kt' ∧ Stand p l e R s m args below meth c (T.setVm vm') locs cells slots ∧
      ∀ target, Steps p.tables e below (((T.setVm vm').setTop g).pushFrame (.throwNew "java/lang/ClassCastException" (some (Op.checkcast.message vm' ks' kt')) none)) target → Steps p.tables e below (T.setTop g) target := by
  have hpl : e.platform.magicAccessors = ({} : Platform).magicAccessors := by rw [X.admits.platform]
  obtain ⟨c', hc', hcl⟩ := Cond.classLink_spec hown hlink e.platform hpl
  cases hcT.symm.trans hc'
  obtain ⟨dk, _, _, kt0, hd, _, _, _, _, hkt0, _, hopen⟩ := hcl.here
  have hcl₀ := X.warmed.classLinks hcl
  have hW' : s.WarmedH (T.vm.noted m.cls index (.cls cT)) := X.warmed.noted hd hopen (State.rightAt_cls hcl)
  obtain ⟨ks', hks', -⟩ := hW'.alike.2.2 _ _ hks
  obtain ⟨kt', hkt', -⟩ := hW'.alike.2.2 _ _ hkt
  refine ⟨_, ks', kt', hW'.alike, hks', hkt', X.noted hW', fun target hrest => ?_⟩
  subst hg
  jvm_step X.here [hexec, hdg, checkcast.wp_cold (e := e) (s := T) (f := g) X.here.top hstack (resolveClass_links e.toSetting hcl₀) hcl₀.ready,
    checkcast.wp_ready (e := e) (s := T.setVm (T.vm.noted g.method.cls index (.cls cT))) (f := g) X.here.top hcl₀.ready hstack]
  have h1 : (T.vm.noted g.method.cls index (Resolved.cls cT)).assignable cell.cls cT = false := by rw [hW'.alike.assignable]; exact hasg
  refine ⟨cell, hcell, VmData.noStatics_of hobj, ks', hks', kt', hkt', ?_⟩
  simp only [h1]
  exact hrest
end
section AMCAST
variable {G : amG} {l : Launch} {own nm ds : String} {R : Room} {idx kd dR mcR msR pc : Nat}
theorem amSiteInst (hk : amAr kd) (hlink : Cond.classLink own idx (amArN kd) ∈ lw_all) : amSite G l own nm R (.instanceof idx) 3 1 0 0 (amTinst kd) := by
  intro cc nL p e s m args below meth c Q pc ls as st h k z K hC hnm hd hT hn hcat hkk hz kk H locs lsv hR hS hL
  obtain ⟨hx, hb, hml, hown, hts, hK, hb0⟩ := hC
  match as, hT with
  | [.ref a], hT =>
  obtain ⟨t1, t2, t3⟩ := hT
  have hcell := amArCell hK hR t1
  by_cases hq : (h.1 a).1 = kd
  · obtain ⟨cell, c1, c2, c3⟩ := hcell
    rw [hq] at c3
    intro T hT X
    obtain ⟨vm', X', st1⟩ := X.instanceofYes hx hown (hts _ hlink) (by rw [hT]; exact c1) c2 c3 (va_asg _ _) (g := F0 m pc lsv (.ref (amAd G a) :: st.map (amV G))) rfl (rest := st.map (amV G)) rfl (by rw [hb]; exact hd)
    obtain ⟨t, a1, b1⟩ := kk _ _ (t2 hq) H locs lsv hR hS hL (T.setVm vm') hT X'
    exact ⟨t, st1 t a1, b1⟩
  · exact va_instNo hx hb hown (hts _ hlink) (amArNc hK t1 hk hq) hcell hd (kk _ _ (t3 hq) H locs lsv hR hS hL)
theorem amSiteCst (hk : amAr kd) (hlink : Cond.classLink own idx (amArN kd) ∈ lw_all) : amSite G l own nm R (.checkcast idx) 3 1 0 0 (amTcst kd) := by
  intro cc nL p e s m args below meth c Q pc ls as st h k z K hC hnm hd hT hn hcat hkk hz kk H locs lsv hR hS hL
  obtain ⟨hx, hb, hml, hown, hts, hK, hb0⟩ := hC
  match as, hT with
  | [.ref a], hT =>
  obtain ⟨t1, t2⟩ := hT
  obtain ⟨cell, c1, c2, c3⟩ := amArCell hK hR (by rw [t1]; exact hk)
  rw [t1] at c3
  intro T hT X
  obtain ⟨vm', X', st1⟩ := X.checkcastYes hx hown (hts _ hlink) (by rw [hT]; exact c1) c2 c3 (va_asg _ _) (g := F0 m pc lsv (.ref (amAd G a) :: st.map (amV G))) rfl (rest := st.map (amV G)) rfl (by rw [hb]; exact hd)
  obtain ⟨t, a1, b1⟩ := kk _ _ t2 H locs lsv hR hS hL (T.setVm vm') hT X'
  exact ⟨t, st1 t a1, b1⟩
theorem amSiteCast (hl : l.stackTraces = false) (hRm : R = amRm dR mcR msR) (hd8 : 8 ≤ dR) (hk : amAr kd) (hlink : Cond.classLink own idx (amArN kd) ∈ lw_all) : amSiteX pc G l own nm ds R (.checkcast idx) 3 1 3 610 (amTcast kd) := by
  intro cc nL p e s m args below meth c Q ls as st h k z K KX hC hnm hlk hd hT hn hcat hkk hz kk kx H locs lsv hR hS hL
  have hC0 := hC
  obtain ⟨hx, hb, hml, hown, hts, hK, hb0⟩ := hC
  match as, hT with
  | [.null], hT =>
    intro T hT2 X
    obtain ⟨t, a1, b1⟩ := ((kk _ _ hT).widen (by omega) (by omega)) H locs lsv hR hS hL T hT2 X
    exact ⟨t, X.checkcastNull hx (g := F0 m pc lsv (.null :: st.map (amV G))) rfl (rest := st.map (amV G)) rfl (by rw [hb]; exact hd) t a1, b1⟩
  | [.ref a], hT =>
    obtain ⟨t1, t2, t3⟩ := hT
    obtain ⟨cell, c1, c2, c3⟩ := amArCell hK hR t1
    by_cases hq : (h.1 a).1 = kd
    · rw [hq] at c3
      intro T hT X
      obtain ⟨vm', X', st1⟩ := X.checkcastYes hx hown (hts _ hlink) (by rw [hT]; exact c1) c2 c3 (va_asg _ _) (g := F0 m pc lsv (.ref (amAd G a) :: st.map (amV G))) rfl (rest := st.map (amV G)) rfl (by rw [hb]; exact hd)
      obtain ⟨t, a1, b1⟩ := ((kk _ _ (t2 hq)).widen (by omega) (by omega)) H locs lsv hR hS hL (T.setVm vm') hT X'
      exact ⟨t, st1 t a1, b1⟩
    · obtain ⟨c0, cT, f1, f2, f3⟩ := amArNc hK t1 hk hq
      cases c3.symm.trans f1
      obtain ⟨ks, hks, -⟩ := amFc f1
      obtain ⟨kt, hkt, -⟩ := amFc f2
      intro T hT X
      obtain ⟨vm', ks', kt', hA, g1, g2, X', st1⟩ := amCastNo X hx hown (hts _ hlink) (by rw [hT]; exact c1) c2 hks f2 hkt f3 (g := F0 m pc lsv (.ref (amAd G a) :: st.map (amV G))) rfl (rest := st.map (amV G)) rfl (by rw [hb]; exact hd)
      obtain ⟨u1, v1, v2, v3, v4⟩ := amFc (by rw [hA.findClass]; exact f1 : vm'.findClass (amArN (h.1 a).1) = some cell.cls)
      obtain ⟨u2, w1, w2, w3, w4⟩ := amFc (by rw [hA.findClass]; exact f2 : vm'.findClass (amArN kd) = some cT)
      cases g1.symm.trans v1
      cases g2.symm.trans w1
      have kindOf : ∀ {k0 : Nat} {cI : ClassId} {kr : Class}, amAr k0 → s.vm.findClass (amArN k0) = some cI → vm'.classes[cI]? = some kr → ∃ cm t, kr.kind = .array cm t := by
        intro k0 cI kr q0 q1 q2
        cases (amArCls hK q0).symm.trans q1
        obtain ⟨-, k1, hk1, cm1, hkk1⟩ := (amArrT hK (k := k0) (by omega) (by omega)).1 0 (fun _ => .null)
        obtain ⟨k', hk', he⟩ := hA.2.2 _ _ hk1
        cases q2.symm.trans hk'
        exact ⟨cm1, _, by rw [he]; exact hkk1⟩
      obtain ⟨cm1, ty1, kk1⟩ := kindOf t1 f1 v1
      obtain ⟨cm2, ty2, kk2⟩ := kindOf hk f2 w1
      obtain ⟨m1, m2⟩ := amCastM (vm := vm') t1 hk v2 w2 v3 w3 v4 w4 kk1 kk2
      obtain ⟨t, st2, q⟩ := amVm (ex := 2) (nb := 600) (Or.inl rfl) hC0 hl hlk hRm hd8 m1 m2 (by omega) (by omega) (by omega) hR hS hL (rest := .ref (amAd G a) :: st.map (amV G)) (by
        have := amCats G st
        have e9 : ((Value.ref (amAd G a) :: st.map (amV G)).map fun v => v.category).sum = 1 + ((st.map (amV G)).map fun v => v.category).sum := by simp [Value.category]
        rw [e9, this]
        omega) (fun q d => kx 2 q _ (t3 hq q d)) (T.setVm vm') hT X'
      exact ⟨t, st1 t st2, q⟩
end AMCAST
