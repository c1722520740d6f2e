/-! ===== casts that fail ===== -/
theorem aw_found {vm : Vm} {n : String} {c : ClassId} (h : vm.findClass n = some c) : ∃ k, vm.classes[c]? = some k ∧ k.name = n ∧ k.hidden = none ∧ k.loader = none := by
  obtain ⟨hlt, hp, _⟩ := Array.findIdx?_eq_some_iff_getElem.mp h
  refine ⟨vm.classes[c], by simp [hlt], ?_⟩
  simp only [Bool.and_eq_true, beq_iff_eq, Option.isNone_iff_eq_none] at hp
  exact ⟨hp.1.1.1, hp.1.1.2, hp.2⟩
theorem aw_shown {k : Class} {n : String} (hn : k.name = n) (hh : k.hidden = none) : k.shown = dotted n := by
  unfold Class.shown
  rw [hh, hn]
theorem aw_home {U : State} {k : Class} (hm : modulesRight_1 U = true) (hl : k.loader = none) (hp : castPackages_1.contains (packageOf k.name) = true) : (U.vm.home k).toList.length ≤ 40 := by
  have h1 : ∀ m, U.vm.moduleOf k = some m → m.name = "java.base" := by
    intro m h
    unfold Vm.moduleOf at h
    split at h
    · have h2 := List.find?_some h
      exact beq_iff_eq.mp h2
    · have h2 := List.find?_some h
      have h3 := List.mem_of_find?_eq_some h
      simp only [Bool.and_eq_true, beq_iff_eq] at h2
      unfold modulesRight_1 at hm
      have h4 := List.all_eq_true.mp hm m h3
      rw [h2.1, hl] at h4
      simp only [Option.isSome_none, Bool.false_or, Bool.or_eq_true, beq_iff_eq, Bool.not_eq_true'] at h4
      rcases h4 with h4 | h4
      · exact h4
      · exact absurd (List.any_eq_true.mpr ⟨packageOf k.name, List.contains_iff_mem.mp hp, h2.2⟩) (by rw [h4]; decide)
  unfold Vm.home
  rw [hl]
  cases hmo : U.vm.moduleOf k with
  | none =>
    show ("unnamed module" ++ " of loader " ++ "'bootstrap'").toList.length ≤ 40
    decide
  | some m =>
    show ("module " ++ m.name ++ " of loader " ++ "'bootstrap'").toList.length ≤ 40
    rw [h1 m hmo]
    decide
theorem aw_tx_of {tx : String} {ch : Char} {r : List Char} (h : tx.toList = ch :: r) (hc : ch ≠ '\u0000') (hl : tx.toList.length ≤ 250) : aw_tx tx := by
  refine ⟨?_, ?_⟩
  · rw [beq_eq_false_iff_ne]
    intro e
    have h2 := congrArg String.toList e
    rw [h, show notModelled.toList = '\u0000' :: " a message that is not modelled".toList from by decide] at h2
    exact hc (List.cons.inj h2).1
  · have b1 := stringBytes_size_le (stringToUtf16 tx)
    have b2 := utf16_size_le tx
    omega
theorem aw_tx_cast {U : State} {a b : Class} {n1 n2 : String} (hm : modulesRight_1 U = true) (ha : a.name = n1 ∧ a.hidden = none ∧ a.loader = none) (hb : b.name = n2 ∧ b.hidden = none ∧ b.loader = none)
    (h1 : castPackages_1.contains (packageOf n1) = true ∧ (dotted n1).toList.length ≤ 24) (h2 : castPackages_1.contains (packageOf n2) = true ∧ (dotted n2).toList.length ≤ 24) : aw_tx (Op.checkcast.message U.vm a b) := by
  have hA := aw_home (k := a) hm ha.2.2 (by rw [ha.1]; exact h1.1)
  have hB := aw_home (k := b) hm hb.2.2 (by rw [hb.1]; exact h2.1)
  have eA := aw_shown ha.1 ha.2.1
  have eB := aw_shown hb.1 hb.2.1
  have hH : (U.vm.homes a b).toList.length ≤ 144 := by
    unfold Vm.homes
    rw [eA, eB]
    split
    · show (toString (dotted n1) ++ toString " and " ++ toString (dotted n2) ++ toString " are in " ++ toString (U.vm.home a)).toList.length ≤ 144
      simp only [String.toList_append, List.length_append]
      have a1 : (toString " and ").toList.length = 5 := by decide
      have a2 : (toString " are in ").toList.length = 8 := by decide
      have a3 : (toString (dotted n1)).toList.length ≤ 24 := h1.2
      have a4 : (toString (dotted n2)).toList.length ≤ 24 := h2.2
      have a5 : (toString (U.vm.home a)).toList.length ≤ 40 := hA
      omega
    · show (toString (dotted n1) ++ toString " is in " ++ toString (U.vm.home a) ++ toString "; " ++ toString (dotted n2) ++ toString " is in " ++ toString (U.vm.home b)).toList.length ≤ 144
      simp only [String.toList_append, List.length_append]
      have a1 : (toString " is in ").toList.length = 7 := by decide
      have a2 : (toString "; ").toList.length = 2 := by decide
      have a3 : (toString (dotted n1)).toList.length ≤ 24 := h1.2
      have a4 : (toString (dotted n2)).toList.length ≤ 24 := h2.2
      have a5 : (toString (U.vm.home a)).toList.length ≤ 40 := hA
      have a6 : (toString (U.vm.home b)).toList.length ≤ 40 := hB
      omega
  have hL : (Op.checkcast.message U.vm a b).toList = 'c' :: ("lass ".toList ++ (dotted n1).toList ++ " cannot be cast to class ".toList ++ (dotted n2).toList ++ " (".toList ++ (U.vm.homes a b).toList ++ ")".toList) := by
    unfold Op.checkcast.message
    rw [eA, eB]
    show (toString "class " ++ toString (dotted n1) ++ toString " cannot be cast to class " ++ toString (dotted n2) ++ toString " (" ++ toString (U.vm.homes a b) ++ toString ")").toList = _
    simp only [String.toList_append]
    rfl
  refine aw_tx_of hL (by decide) ?_
  rw [hL]
  simp only [List.length_cons, List.length_append]
  have a1 : "lass ".toList.length = 5 := by decide
  have a2 : " cannot be cast to class ".toList.length = 25 := by decide
  have a3 : " (".toList.length = 2 := by decide
  have a4 : ")".toList.length = 1 := by decide
  have a5 := h1.2
  have a6 := h2.2
  omega
section AwCastX
variable {p : Program} {l : Launch} {e : Env} {R : Room} {s : State} {m : MethodId} {args : Array Value} {below : List Frame} {meth : Method} {c : Code} {T : State} {locs : List Loc} {cells slots : Nat}
theorem aw_castNo (X : Stand p l e R s m args below meth c T locs cells slots) (hexec : p.tables.exec = Jvm.exec)
    {own name : String} {index : Nat} (hown : s.vm.findClass own = some m.cls) (hlink : (Cond.classLink own index name).before args s = true)
    {a : Addr} {cell : Cell} {cT : ClassId} {ks : Class} (hcell : T.heap[a]? = some cell) (hobj : ∀ k, cell.vm ≠ .statics k) (hks : s.vm.classes[cell.cls]? = some ks)
    (hcT : s.vm.findClass name = some cT) (hasg : s.vm.assignable cell.cls cT = false)
    {g : JFrame} (hg : g.method = m) {rest : List Value} (hstack : g.stack = .ref a :: rest) (hdg : decode c.code g.pc = .ok (.checkcast index, 3)) :
    ∃ (vm' : Vm) (ks' kt' : Class), Stand p l e R s m args below meth c (T.setVm vm') locs cells slots ∧ s.vm.Alike vm' ∧ vm'.classes[cell.cls]? = some ks' ∧ vm'.classes[cT]? = some kt' ∧
      ∀ target, Steps p.tables e below (((T.setVm vm').setTop g).pushFrame (.throwNew "java/lang/ClassCastException" (some (Op.checkcast.message vm' ks' kt')) none)) target → Steps p.tables e below (T.setTop g) target := by
  have hpl : e.platform.magicAccessors = ({} : Platform).magicAccessors := by rw [X.admits.platform]
  obtain ⟨c', hc', hcl⟩ := Cond.classLink_spec hown hlink e.platform hpl
  cases hcT.symm.trans hc'
  obtain ⟨dk, _, _, kt, hd, _, _, _, _, hkt, _, hopen⟩ := hcl.here
  have hcl₀ := X.warmed.classLinks hcl
  have hW' : s.WarmedH (T.vm.noted m.cls index (.cls cT)) := X.warmed.noted hd hopen (State.rightAt_cls hcl)
  obtain ⟨ks', hks', -⟩ := hW'.alike.2.2 _ _ hks
  obtain ⟨kt', hkt', -⟩ := hW'.alike.2.2 _ _ hkt
  refine ⟨_, ks', kt', X.noted hW', hW'.alike, hks', hkt', fun target hrest => ?_⟩
  subst hg
  jvm_step X.here [hexec, hdg, Op.checkcast.wp_cold (e := e) (s := T) (f := g) X.here.top hstack (resolveClass_links e.toSetting hcl₀) hcl₀.ready,
    Op.checkcast.wp_ready (e := e) (s := T.setVm (T.vm.noted g.method.cls index (.cls cT))) (f := g) X.here.top hcl₀.ready hstack]
  refine ⟨cell, hcell, hobj, ks', hks', kt', hkt', ?_⟩
  rw [if_neg (by rw [hW'.alike.assignable, hasg]; decide)]
  exact hrest
end AwCastX
section AwCastR
variable {Y : AwM} {d pc : Nat} {ls : List (Nat × AwV)} {st : List AwV} {G : AwH} {cx : AwC}
/-- a name whose print is short -/
def aw_sn (n : String) : Bool := castPackages_1.contains (packageOf n) && decide ((dotted n).toList.length ≤ 24)
theorem aw_sn_cn : ∀ t, t < 39 → aw_sn (aw_cn t) = true := by decide +kernel
theorem rw_castX {idx T : Nat} {nm : String} {x : Option Nat} (hd : decode Y.2.1 pc = .ok (.checkcast idx, 3)) (hq : Cond.classLink Y.1.cls idx nm ∈ lw_all) (hn : ∀ t, ck_n T t = true → (t < 18 ∨ (20 ≤ t ∧ t < 39)) ∧ (aw_cn t, nm) ∈ aw_nc) (hg : cc_n T x = true) (k : RX Y d pc ls (th_ G 3 1010) 2 cx) (hnm : aw_sn nm = true := by decide +kernel) (hd0 : 0 < d := by decide) (hsz : aw_sz (vA_ x :: st) ≤ 20 := by exact Nat.le_of_ble_eq_true rfl) : RW Y d pc ls (vA_ x :: st) G cx := by
  refine rw_thrM (x := 2) ⟨by decide, by decide⟩ hd0 (vA_ x :: st) hsz ?_ k
  intro p l e R s m args below meth c H locs cells slots lsC Q base D dA ad hx9 hb hts hown hsz9 hT hh hok hN
  cases x with
  | none => cases hg
  | some b =>
    obtain ⟨h1, h2⟩ := hn _ hg
    have hbm : b ∈ gA_ G := aw_in_A (hok (vA_ (some b)) (by simp)) hh.2.2.2.1 (show b % 64 = tg_ b from rfl) (by omega)
    obtain ⟨cell, r1, r2, r3⟩ := aw_recv hT hh hbm h1
    obtain ⟨c0, t0, f1, f2, f3⟩ := hT.2.2.1 _ h2
    cases Option.some.inj (r3.symm.trans f1)
    obtain ⟨ks, hks, -⟩ := aw_found r3
    intro S hS X
    obtain ⟨vm', ks', kt', X', hal, hks', hkt', st2⟩ := aw_castNo X hx9 hown (hts _ hq) (by rw [hS]; exact r1) (VmData.noStatics_of r2) hks f2 f3 (g := F0 m pc lsC ((vA_ (some b) :: st).map (aw_cv ad))) rfl (a := ad b) (rest := st.map (aw_cv ad)) rfl (by rw [hb]; exact hd)
    obtain ⟨k1, e1, e2⟩ := aw_found (show vm'.findClass (aw_cn (tg_ b)) = some cell.cls by rw [hal.findClass]; exact r3)
    obtain ⟨k2, e3, e4⟩ := aw_found (show vm'.findClass nm = some t0 by rw [hal.findClass]; exact f2)
    cases Option.some.inj (e1.symm.trans hks')
    cases Option.some.inj (e3.symm.trans hkt')
    have hs1 := aw_sn_cn (tg_ b) (by omega)
    unfold aw_sn at hs1 hnm
    simp only [Bool.and_eq_true, decide_eq_true_eq] at hs1 hnm
    have hmr : modulesRight_1 (s.setVm vm') = true := aw_MR.moved (u := s) hal hT.2.2.2.2.2.2.2.1
    obtain ⟨t, st3, q⟩ := hN _ (aw_tx_cast (U := s.setVm vm') hmr e2 e4 hs1 hnm) (S.setVm vm') hS X'
    exact ⟨t, st2 t st3, q⟩
end AwCastR
