/-! ===== wrong elements, negative lengths; the racks' array ===== -/
section AwWp
variable {Q : Unit → Pre} {E : CtlPost} {e : Env} {d : Bool} {acts : List Action} {s : State} {f : JFrame}
theorem aw_aastS_wp {a v : Addr} {i : Int32} {rest : List Value} {c cv : Cell} {k kv kcomp : Class} {comp : ClassId} {t : FieldType}
    (hs : s.topJava?.isSome) (hstack : f.stack = .ref v :: .int i :: .ref a :: rest) (hcell : s.heap[a]? = some c) (hobj : ∀ x, c.vm ≠ .statics x)
    (hk : s.vm.classes[c.cls]? = some k) (hkind : k.kind = .array comp t) (hi : ¬ i < 0) (hlt : i.toNatClampNeg < c.slots.size)
    (hv : s.heap[v]? = some cv) (hvobj : ∀ x, cv.vm ≠ .statics x) (hkv : s.vm.classes[cv.cls]? = some kv) (hkcomp : s.vm.classes[comp]? = some kcomp)
    (hinst : s.vm.assignable cv.cls comp = false) :
    wp aastore.sem Q E e d acts (s.setTop f) ↔ E (.throwNew "java/lang/ArrayStoreException" (some kv.shown)) acts (s.setTop { f with stack := rest }) := by
  have harr : s.isArray c := ⟨hobj, k, hk, comp, t, hkind⟩
  simp [aastore.sem, hs, hstack, hcell, hobj, hk, hkind, hi, hlt, Nat.not_le.mpr hlt, harr, hv, hvobj, hkv, hkcomp, hinst]
theorem aw_anewNeg_wp {index : Nat} {comp c : ClassId} {n : Int32} {rest : List Value} {kc : Class}
    (hs : s.topJava?.isSome) (hr : s.vm.classReady f.method.cls index comp) (hkc : s.vm.classes[comp]? = some kc)
    (hc : (s.vm.classes.findIdx? fun x => match x.kind with | .array component _ => component == comp | _ => false) = some c)
    (hstack : f.stack = .int n :: rest) (hn : n < 0) :
    wp (anewarray.sem index) Q E e d acts (s.setTop f) ↔ E (.throwNew "java/lang/NegativeArraySizeException" (some (toString n))) acts (s.setTop { f with stack := rest }) := by
  simp only [anewarray.sem, wp_bind', W.resolveClassAt_ready (State.method?_setTop f hs) hr,
    W.arrayClassOf'_ready (s := s.setTop f) (show (s.setTop f).vm.classes[comp]? = some kc from hkc) (show ((s.setTop f).vm.classes.findIdx? _) = some c from hc),
    W.popInt, State.topJava?_setTop' _ hs, Option.some.injEq, exists_eq_left', hstack, List.cons.injEq,
    Value.int.injEq, exists_cons_eq, State.setTop_setTop, W.ite, hn, if_true, wp_pure', W.mark]
  simp
end AwWp
section AwThr2
variable {p : Program} {l : Launch} {e : Env} {R : Room} {s : State} {m : MethodId} {args : Array Value} {below : List Frame} {meth : Method} {c : Code} {T : State} {locs : List Loc} {cells slots : Nat}
theorem aw_aastS (X : Stand p l e R s m args below meth c T locs cells slots) (hexec : p.tables.exec = Jvm.exec) {a v : Addr} {i : Int32} {rest : List Value} {ca cv : Cell} {k kv kcomp : Class} {comp : ClassId} {t : FieldType}
    (hcell : T.heap[a]? = some ca) (hobj : ∀ x, ca.vm ≠ .statics x) (hk : s.vm.classes[ca.cls]? = some k) (hkind : k.kind = .array comp t) (hi : ¬ i < 0) (hlt : i.toNatClampNeg < ca.slots.size)
    (hv : T.heap[v]? = some cv) (hvobj : ∀ x, cv.vm ≠ .statics x) (hkv : s.vm.classes[cv.cls]? = some kv) (hkcomp : s.vm.classes[comp]? = some kcomp) (hinst : s.vm.assignable cv.cls comp = false)
    {g : JFrame} (hg : g.method = m) (hstack : g.stack = .ref v :: .int i :: .ref a :: rest) (hdg : decode c.code g.pc = .ok (.aastore, 1)) :
    ∃ kv' : Class, T.vm.classes[cv.cls]? = some kv' ∧ ∀ target, Steps p.tables e below ((T.setTop { g with stack := rest }).pushFrame (.throwNew "java/lang/ArrayStoreException" (some kv'.shown) none)) target → Steps p.tables e below (T.setTop g) target := by
  have hal := X.warmed.alike
  obtain ⟨k', hk', he⟩ := hal.2.2 _ _ hk
  obtain ⟨kv', hkv', -⟩ := hal.2.2 _ _ hkv
  obtain ⟨kc', hkc', -⟩ := hal.2.2 _ _ hkcomp
  refine ⟨kv', hkv', fun target hrest => ?_⟩
  subst hg
  jvm_step X.here [hexec, hdg, aw_aastS_wp (e := e) (s := T) (f := g) X.here.top hstack hcell hobj hk' (show k'.kind = .array comp t by rw [he]; exact hkind) hi hlt hv hvobj hkv' hkc' (by rw [hal.assignable]; exact hinst)]
  exact hrest
theorem aw_anewNeg (X : Stand p l e R s m args below meth c T locs cells slots) (hexec : p.tables.exec = Jvm.exec) {own nm : String} {index : Nat} {comp cA : ClassId} (hown : s.vm.findClass own = some m.cls) (hclink : (Cond.classLink own index nm).before args s = true)
    (hcomp : s.vm.findClass nm = some comp) (hidx : (s.vm.classes.findIdx? fun x => match x.kind with | .array component _ => component == comp | _ => false) = some cA)
    {g : JFrame} (hg : g.method = m) (hdg : decode c.code g.pc = .ok (.anewarray index, 3)) {n : Int32} {rest : List Value} (hstack : g.stack = .int n :: rest) (hn : n < 0) :
    ∃ vm' : Vm, Stand p l e R s m args below meth c (T.setVm vm') locs cells slots ∧ ∀ target, Steps p.tables e below (((T.setVm vm').setTop { g with stack := rest }).pushFrame (.throwNew "java/lang/NegativeArraySizeException" (some (toString n)) none)) target → Steps p.tables e below (T.setTop g) target := by
  subst hg
  have hpl : e.platform.magicAccessors = ({} : Platform).magicAccessors := by rw [X.admits.platform]
  obtain ⟨kComp, hkComp, -⟩ := Vm.findClass_spec hcomp
  obtain ⟨cc', hfcc, hcl⟩ := Cond.classLink_spec hown hclink e.platform hpl
  cases hcomp.symm.trans hfcc
  obtain ⟨hg₁, hwarm₁, hready₁⟩ := State.classEntry (e := e) X.warmed hcl
  generalize T.vm.noted g.method.cls index (.cls comp) = vm₁ at hg₁ hwarm₁ hready₁
  have hal : s.vm.Alike vm₁ := hwarm₁.alike
  obtain ⟨kComp₁, hkComp₁, -⟩ := hal.2.2 _ _ hkComp
  have hidx₁ : (vm₁.classes.findIdx? fun x => match x.kind with | .array component _ => component == comp | _ => false) = some cA := by
    rw [hal.findIdx?_eq _ (fun _ => rfl)]; exact hidx
  refine ⟨vm₁, X.noted hwarm₁, fun target hrest => ?_⟩
  jvm_step X.here [hexec, hdg, anewarray.wp_cold (e := e) (s := T) (f := g) X.here.top hg₁ hready₁,
    aw_anewNeg_wp (e := e) (s := T.setVm vm₁) (f := g) X.here.top hready₁ hkComp₁ hidx₁ hstack hn]
  exact hrest
end AwThr2
section AwRef2
variable {Y : AwM} {d pc : Nat} {ls : List (Nat × AwV)} {st : List AwV} {G : AwH} {c cx : AwC}
/-- the component classes of the rows of events -/
def sn_c : Nat → String
  | 27 => "StaveScore$Note"
  | 28 => "StaveScore$Chord"
  | 29 => "StaveScore$Grace"
  | 30 => "StaveScore$Rest"
  | _ => "StaveScore$Breath"
def sn9 : Nat → Nat → Bool
  | 27, t => [15, 16].contains t
  | 28, t => [12, 14, 15, 16].contains t
  | 29, t => [12, 13, 15, 16].contains t
  | 30, t => [12, 13, 14].contains t
  | 31, t => [12, 13, 14, 15].contains t
  | _, _ => false
/-- y surely does not go into the array a -/
def sn_ (y : Option Nat) (a : Nat) : Bool := match y with
  | none => false
  | some b => sn9 (tg_ a) (tg_ b)
theorem sn9_nc {ta t : Nat} (h : sn9 ta t = true) : ∃ u, ta = 20 + u ∧ aw_al[u]? = some (.object (sn_c ta)) ∧ 6 ≤ u ∧ u < 19 ∧ t < 18 ∧ (aw_cn t, sn_c ta) ∈ aw_nc := by
  have go : ∀ L : List Nat, L.contains t = true → (∀ x ∈ L, x < 18 ∧ (aw_cn x, sn_c ta) ∈ aw_nc) → t < 18 ∧ (aw_cn t, sn_c ta) ∈ aw_nc := fun L h1 h2 => h2 t (List.contains_iff_mem.mp h1)
  unfold sn9 at h
  split at h
  · exact ⟨7, rfl, rfl, by decide, by decide, go _ h (by decide +kernel)⟩
  · exact ⟨8, rfl, rfl, by decide, by decide, go _ h (by decide +kernel)⟩
  · exact ⟨9, rfl, rfl, by decide, by decide, go _ h (by decide +kernel)⟩
  · exact ⟨10, rfl, rfl, by decide, by decide, go _ h (by decide +kernel)⟩
  · exact ⟨11, rfl, rfl, by decide, by decide, go _ h (by decide +kernel)⟩
  · cases h
theorem aw_tx_cn : ∀ t, t < 39 → aw_tx (dotted (aw_cn t)) := by
  intro t h
  have h1 : (List.range 39).all (fun t => (dotted (aw_cn t) == notModelled) == false && decide ((dotted (aw_cn t)).toList.length ≤ 250)) = true := by decide +kernel
  have h2 := List.all_eq_true.mp h1 t (List.mem_range.mpr h)
  simp only [Bool.and_eq_true, decide_eq_true_eq, beq_iff_eq] at h2
  refine ⟨h2.1, ?_⟩
  have b1 := stringBytes_size_le (stringToUtf16 (dotted (aw_cn t)))
  have b2 := utf16_size_le (dotted (aw_cn t))
  omega
theorem rw_aastoreS {x y : Option Nat} {a : Nat} {i : Int32} (hd : decode Y.2.1 pc = .ok (.aastore, 1)) (hx : x = some a) (h : tk_ [26, 27, 28, 29, 30, 31] a = true) (hi : ib_ i (ln_ a) = true) (hn : sn_ y a = true) (k : RX Y d pc ls (th_ G 3 1010) 3 cx) (hd0 : 0 < d := by decide) (hsz : aw_sz st ≤ 20 := by exact Nat.le_of_ble_eq_true rfl) : RW Y d pc ls (vA_ y :: vI_ i :: vA_ x :: st) G cx := by
  subst hx
  cases y with
  | none => cases hn
  | some b =>
  obtain ⟨u, hu0, hu1, hu2, hu3, hb18, hnc⟩ := sn9_nc hn
  refine rw_thrM (x := 3) ⟨by decide, by decide⟩ hd0 st hsz ?_ k
  intro p l e R s m args below meth c H locs cells slots lsC Q base D dA ad hx9 hb hts hown hsz9 hT hh hok hN
  have ha : a ∈ gA_ G := aw_in_A (hok (vA_ (some a)) (by simp)) hh.2.2.2.1 (show a % 64 = 20 + u from hu0) (by omega)
  have hbm : b ∈ gA_ G := aw_in_A (hok (vA_ (some b)) (by simp)) hh.2.2.2.1 (show b % 64 = tg_ b from rfl) (by omega)
  obtain ⟨c1, c2⟩ := aw_refarr hT hh ha hu1 hu2 hu0
  obtain ⟨hobj, kA, hkA, comp, hkind⟩ := c2
  obtain ⟨cv, r1, r2, r3⟩ := aw_recv hT hh hbm (Or.inl hb18)
  obtain ⟨c0, t0, f1, f2, f3⟩ := hT.2.2.1 _ hnc
  cases Option.some.inj (r3.symm.trans f1)
  have hcomp : comp = t0 := by
    obtain ⟨kA2, comp2, k1, k2, k3, -⟩ := (hT.1.2 _ _ (aw_tys_at dA hu1)).2
    cases Option.some.inj (hkA.symm.trans k1)
    rw [hkind] at k2
    cases k2
    exact Option.some.inj (k3.symm.trans f2)
  subst hcomp
  obtain ⟨kv, hkv, -⟩ := aw_found r3
  obtain ⟨kc, hkc, -⟩ := aw_found f2
  have hin := ib_vp hi
  have hlt : i.toNatClampNeg < ln_ a := Nat.not_le.mp fun q => hin (Or.inr q)
  have h0 : ¬ i < 0 := fun q => hin (Or.inl q)
  intro S hS X
  obtain ⟨kv', hkv', st2⟩ := aw_aastS X hx9 (by rw [hS]; exact c1) hobj hkA hkind h0 (by rw [arrV_size]; exact hlt) (by rw [hS]; exact r1) (VmData.noStatics_of r2) hkv hkc f3 (g := F0 m pc lsC ((vA_ (some b) :: vI_ i :: vA_ (some a) :: st).map (aw_cv ad))) rfl (rest := st.map (aw_cv ad)) rfl (by rw [hb]; exact hd)
  obtain ⟨k1, e1, e2⟩ := aw_found (show S.vm.findClass (aw_cn (tg_ b)) = some cv.cls by rw [X.warmed.alike.findClass]; exact r3)
  cases Option.some.inj (e1.symm.trans hkv')
  obtain ⟨t, st3, q⟩ := hN kv'.shown (by rw [aw_shown e2.1 e2.2.1]; exact aw_tx_cn _ (by omega)) S hS X
  exact ⟨t, st2 t st3, q⟩
theorem rw_anewarrayX {idx u : Nat} {n : Int32} {C : String} (hd : decode Y.2.1 pc = .ok (.anewarray idx, 3)) (hn : n < 0) (hq : Cond.classLink Y.1.cls idx C ∈ lw_all) (hu : aw_al[u]? = some (.object C)) (k : RX Y d pc ls (th_ G 3 1010) 4 cx) (hd0 : 0 < d := by decide) (hsz : aw_sz st ≤ 20 := by exact Nat.le_of_ble_eq_true rfl) : RW Y d pc ls (vI_ n :: st) G cx := by
  refine rw_thrM (x := 4) ⟨by decide, by decide⟩ hd0 st hsz ?_ k
  intro p l e R s m args below meth c H locs cells slots lsC Q base D dA ad hx9 hb hts hown hsz9 hT hh hok hN
  obtain ⟨comp, cA, kA, g1, g2, -⟩ := Cond.arrayOver_spec (hT.2.2.2.1 C (List.mem_of_getElem? hu))
  intro S hS X
  obtain ⟨vm', X', st2⟩ := aw_anewNeg X hx9 hown (hts _ hq) g1 g2 (g := F0 m pc lsC ((vI_ n :: st).map (aw_cv ad))) rfl (by rw [hb]; exact hd) (n := n) (rest := st.map (aw_cv ad)) rfl hn
  obtain ⟨t, st3, q⟩ := hN _ (aw_tx_neg hn rfl) (S.setVm vm') hS X'
  exact ⟨t, st2 t st3, q⟩
theorem aw_newqA {p : Program} {l : Launch} {e : Env} {R : Room} {s : State} {m : MethodId} {args : Array Value} {below : List Frame} {meth : Method} {c : Code} {H : Heap} {locs : List Loc} {cells slots : Nat} {Q : State → Prop} {pc : Nat} {lsC : Array Slot} {rest : List Value} {D : va_G} {cl : List vw_C} {ws : va_W} {tys : List (ClassId × FieldType)} {A : Nat → Prop} {H0 : Heap} {cc : ByteArray}
    (hexec : p.tables.exec = Jvm.exec) (hb : c.code = cc) {own : String} {index : Nat} (hown : s.vm.findClass own = some m.cls) (hclink : (Cond.classLink own index "[LStaveScore$Event;").before args s = true) (hover : aw_AA s) (hK : va_K D cl tys s) (hP : va_P D cl ws H) (hD : va_D A ws) (hS : va_S A H0 H locs) (hA : ∀ q, H0.size ≤ q → A q)
    {n : Int32} {N' : Nat} (hn : ¬ n < 0) (hN : n.toNatClampNeg = N') (hbytes : N' * 4 ≤ 536870912) (hcells : cells + 1 ≤ R.cells) (hslots : slots + N' ≤ R.slots) (hdg : decode cc pc = .ok (.anewarray index, 3))
    (kk : ∀ (q : Nat) (cA : ClassId) (H1 : Heap), va_K D cl (tys ++ [(cA, .array (.object "StaveScore$Event"))]) s → va_P D cl (ws ++ [(q, .inl (cA, N', .inr (.inr (.inr (.inr (fun _ => none))))))]) H1 → va_D A (ws ++ [(q, .inl (cA, N', .inr (.inr (.inr (.inr (fun _ => none))))))]) → va_S A H0 H1 locs →
      W p l e R s m args below meth c H1 locs (cells + 1) (slots + N') Q (F0 m (pc + 3) lsC (.ref q :: rest))) : W p l e R s m args below meth c H locs cells slots Q (F0 m pc lsC (.int n :: rest)) := by
  subst hN
  refine W.anewA (t := .object "StaveScore$Event") hexec hb hown hclink (show (Cond.arrayOver (.array (.object "StaveScore$Event"))).before args s = true from hover) rfl hdg rfl hn hbytes hcells hslots fun cA kA comp f1 f2 f3 f4 => ?_
  generalize hH1 : H.push ({ cls := cA, slots := Array.replicate n.toNatClampNeg .null, vm := .none } : Cell) = H1
  have z1 : H1.size = H.size + 1 := by rw [← hH1, Array.size_push]
  have e1 : H1[H.size]? = some (arrV cA n.toNatClampNeg (fun _ => .null)) := by rw [← hH1, Array.getElem?_push_size, ← arrV_new]
  have o1 : ∀ q : Nat, q < H.size → H1[q]? = H[q]? := fun q hq => by rw [← hH1, Array.getElem?_push, if_neg (Nat.ne_of_lt hq)]
  have hAr : ArrOfT s cA (.array (.object "StaveScore$Event")) := fun N z => ⟨(fun k h => by cases h), kA, f2, comp, f3⟩
  have hk : ∀ (k : Nat) (x : Nat × va_E), ws[k]? = some x → H1[x.1]? = H[x.1]? := fun k x hx => o1 x.1 ((hP k x hx).lt)
  refine kk H.size cA H1 ⟨hK.1, fun k x hx => ?_⟩ ((hP.kept hk).app (fun k x hx => ?_)) (hD.push hP rfl (hA _ hS.1)) ⟨Nat.le_trans hS.1 (by omega), fun x h1 h2 => (o1 x (Nat.lt_of_lt_of_le h1 hS.1)).trans (hS.2.1 x h1 h2), hS.2.2⟩
  · by_cases hl : k < tys.length
    · rw [List.getElem?_append_left hl] at hx
      exact hK.2 k x hx
    · rw [List.getElem?_append_right (by omega)] at hx
      have hz : k - tys.length < 1 := (List.getElem?_eq_some_iff.mp hx).1
      rw [show k - tys.length = 0 by omega] at hx
      cases hx
      exact ⟨hAr, f1⟩
  · have hz : k < 1 := (List.getElem?_eq_some_iff.mp hx).1
    rw [show k = 0 by omega] at hx
    cases hx
    show H1[H.size]? = some (vp_cell _ _)
    rw [vp_cell_q]
    exact e1
theorem rw_anewarrayA {idx N : Nat} {n : Int32} (hd : decode Y.2.1 pc = .ok (.anewarray idx, 3)) (hq : Cond.classLink Y.1.cls idx "[LStaveScore$Event;" ∈ lw_all) (hn : ¬ n < 0) (hN : ix_ n = N) (hl : N < 1024)
    (kk : RW Y d (pc + 3) ls (vA_ (some (na_ G N 38)) :: st) (nw_ G (na_ G N 38) N) c) : RW Y d pc ls (vI_ n :: st) G c := by
  have hu : aw_al[18]? = some (.array (.object "StaveScore$Event")) := rfl
  obtain ⟨g1, g2⟩ := na_ln (G := G) hl (show 38 < 64 by omega)
  refine rw_newW (na_q hl (by omega)) (fun w h => List.mem_cons_of_mem _ h) ?_ kk
  intro p l e R s m args below meth c H locs cells slots lsC Q base D dA ad hx hb hts hown hT hP hD hS hbs h1 h2 k9
  refine aw_newqA hx hb hown (hts _ hq) hT.2.2.2.2.2.2.1 hT.1 hP hD hS (fun q h => Nat.le_trans hbs h) hn hN (by omega) h1 h2 hd (fun q cA H1 hK1 hP1 hD1 hS1 => ?_)
  have hc := aw_K_last hu hT.1 hK1
  subst hc
  refine k9 q H1 _ (fun ad' ha' => ?_) hP1 hD1 hS1
  rw [aw_en_a (u := 18) g2, g1]
  congr 3
  rw [aw_ar_q (by decide)]
  congr 4
  funext k
  rw [gR_nw, if_pos rfl]
  rfl
end AwRef2
