/-! AM: arrays of references made; lambdas' objects stored -/
set_option maxRecDepth 100000
def amTan (kd n : Nat) : amT := fun as h K => match as with
  | [.int x] => x = nI n ∧ K (some (.ref h.2.2.2.2)) (amNew h (kd, n))
  | _ => False
theorem amTan_d {kd n : Nat} {x : Int32} {h : amH} {K : Option Value → amH → Prop} : amTan kd n [.int x] h K = (x = nI n ∧ K (some (.ref h.2.2.2.2)) (amNew h (kd, n))) := rfl
theorem amSiteAn {G : amG} {l : Launch} {own nm C : String} {R : Room} {kd idx n : Nat} (hk : 6 ≤ kd ∧ kd ≤ 8) (hn : n ≤ 100) (hname : amKt kd = .object C) (hC : C ∈ amAO) (hlink : Cond.classLink own idx C ∈ lw_all) : amSite G l own nm R (.anewarray idx) 3 1 1 n (amTan kd n) := by
  intro cc nL p e s m args below meth c Q pc ls as st h k z K hCC hnm hd hT hn1 hcat hkk hz kk H locs lsv hR hS hL
  obtain ⟨hx, hb, hml, hown, hts, hK, hb0⟩ := hCC
  match as, hT with
  | [.int x], hT =>
  obtain ⟨rfl, hT⟩ := hT
  have hneg : ¬ nI n < 0 := nI_pos (by omega)
  have hcn : (nI n).toNatClampNeg = n := amCl_nI (by omega)
  refine W.anew (own := own) (C := C) hx hb hown (hts _ hlink) (va_AO.use (hK.2.2.2.2.1 C hC)) (g := F0 m pc lsv (.int (nI n) :: st.map (amV G))) rfl hd rfl hneg (by rw [hcn]; omega) hkk (by rw [hcn]; exact hz) fun cA kA comp f1 f2 f3 f4 => ?_
  rw [hcn]
  have hcA : cA = G.2.1 kd := by
    have hRA := (amArrT hK (k := kd) (by omega) (by omega)).2
    rw [hname] at hRA
    obtain ⟨kA', comp', k1, k2, k3, k4⟩ := hRA
    exact Option.some.inj (f1.symm.trans k4)
  subst hcA
  generalize hH1 : H.push ({ cls := G.2.1 kd, slots := Array.replicate n .null, vm := .none } : Cell) = H1
  have z1 : H1.size = H.size + 1 := by rw [← hH1, Array.size_push]
  have e1 : H1[H.size]? = some (arrV (G.2.1 kd) n (fun _ => .null)) := by rw [← hH1, Array.getElem?_push_size, ← arrV_new]
  have o1 : ∀ q : Nat, q < H.size → H1[q]? = H[q]? := fun q hq => by rw [← hH1, Array.getElem?_push, if_neg (Nat.ne_of_lt hq)]
  have het : ∀ j, amEt kd j = amKt kd := fun j => by unfold amEt; rw [if_pos (by omega)]
  have hR' := hR.push (H' := H1) (sh := (kd, n)) z1 (fun q hq => o1 q hq) (by
    have hsh : (amNew h (kd, n)).1 h.2.2.2.2 = (kd, n) := by simp [amNew, va_up]
    refine ⟨fun q => ?_, fun _ _ => ?_⟩
    · rw [hsh] at q
      exact absurd q (by show ¬ kd = 0; omega)
    · rw [hsh]
      refine ⟨?_, fun j _ hm => ?_⟩
      · refine amAV.of ?_
        rw [hR.ad, e1]
        congr 2
        funext j
        rw [het, hname]
        simp [amRd, amMk, amNew, va_up, va_rf, amV]
      · rw [het, hname] at hm
        exact absurd hm (by simp [amMk]))
  have := kk _ _ hT H1 locs lsv hR' ⟨Nat.le_trans hS.1 (by omega), fun x h1 h2 => (o1 x (Nat.lt_of_lt_of_le h1 hS.1)).trans (hS.2.1 x h1 h2), hS.2.2⟩ hL
  have e9 : ((some (Value.ref h.2.2.2.2)).toList ++ st).map (amV G) = .ref H.size :: st.map (amV G) := by simp [amV, hR.ad]
  rw [e9] at this
  exact this
/-- a lambda's object stored in an array of rules -/
def amTasl (kl : Nat) : amT := fun as h K => match as with
  | [.ref a, .int i, .ref b] => h.1 b = (kl, 1) ∧ (h.1 a).1 = 6 ∧ vp_in i (h.1 a).2 ∧ amN0 ≤ a ∧ K none (amWr h a i.toNatClampNeg (.ref b))
  | _ => False
theorem amSiteAsl {G : amG} {l : Launch} {own nm : String} {R : Room} {kl : Nat} (hk : kl = 20 ∨ kl = 21 ∨ kl = 22) : amSite G l own nm R .aastore 1 3 0 0 (amTasl kl) := by
  intro cc nL p e s m args below meth c Q pc ls as st h k z K hCC hnm hd hT hn hcat hk' hz kk H locs lsv hR hS hL
  obtain ⟨hx, hb, hml, hown, hts, hK, hb0⟩ := hCC
  match as, hT with
  | [.ref a, .int i, .ref b], hT =>
  obtain ⟨t1, t2, t3, t4, t5⟩ := hT
  have hs : h.1 a = (6, (h.1 a).2) := Prod.ext t2 rfl
  have hc := hR.arr hs (by omega) (by omega)
  have hbc := hR.arr t1 (by omega) (by omega)
  have hL1 : ∃ q : MethodName × Nat × Nat × Lambda.Shape × Nat, q ∈ amLm ∧ q.2.2.2.2 = kl ∧ q.2.2.2.1.iface = "ReadingStages$Rule" := by
    rcases hk with rfl | rfl | rfl
    · exact ⟨_, List.mem_of_getElem? (i := 0) rfl, rfl, rfl⟩
    · exact ⟨_, List.mem_of_getElem? (i := 1) rfl, rfl, rfl⟩
    · exact ⟨_, List.mem_of_getElem? (i := 2) rfl, rfl, rfl⟩
  obtain ⟨q, hq, rfl, hif⟩ := hL1
  have hat := hK.2.2.2.2.2.2.2.2.1 q hq
  obtain ⟨m', kS, cfS, i0, p0, lk, hm', hkS, hcfS, hshape, -, hfind, hmade, hcan, hlk⟩ := State.lambdaAt?_spec hat
  obtain ⟨iC, hiC, hasg, -⟩ := State.lambdaCallable_spec hcan
  rw [hif] at hiC
  obtain ⟨kS', hkS', hnameS⟩ := className_of_methodNamed hm'
  obtain ⟨dk', kk1, ok, tk, file, cf, object, iface, t, lay, methods, target, found, -, h2, -⟩ := Lambda.isMade_spec hmade
  obtain ⟨kA, comp, k1, k2, k3, k4⟩ := (amArrT hK (k := 6) (by omega) (by omega)).2
  have hcomp : comp = iC := Option.some.inj (k3.symm.trans hiC)
  subst hcomp
  obtain ⟨kI, hkI, -⟩ := Vm.findClass_spec hiC
  obtain ⟨ceb, b1, ⟨b2, b3, b4, b5⟩, -⟩ := hbc.1
  have hlt := am_in t3
  have h0 : ¬ i < 0 := fun q => t3 (Or.inl q)
  refine W.aast hx hb (hc.1.own t4) (fun q h => by cases h) (fun h => by cases h) k1 k2 rfl hkI ⟨h0, by rw [arrV_size]; exact hlt⟩ b1 (fun q h => by rw [h] at b4; cases b4) (by rw [b2]; exact h2) (by rw [b2]; exact hasg) rfl rfl hd fun H1 e1 e2 e3 => ?_
  exact kk _ _ t5 H1 _ lsv (hR.ast2 (v := .ref b) hs (by omega) (by omega) t4 rfl e1 e2 e3) (hS.put e2 e3 (amAd_own t4)) hL
