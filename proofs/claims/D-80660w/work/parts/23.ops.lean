/-! ===== instructions that leave the heap ===== -/
def aw_s2 (v : AwV) : Bool := match v with
  | .inr (.inl _) => true
  | _ => false
theorem aw_cat (ad : Nat → Nat) (v : AwV) : ((aw_cv ad v).category == 2) = aw_s2 v := by
  rcases v with x | x | x
  · rfl
  · rfl
  · cases x <;> rfl
theorem aw_c1 (ad : Nat → Nat) {v : AwV} (h : aw_s2 v = false) : (aw_cv ad v).category = 1 := by
  rcases v with x | x | x
  · rfl
  · cases h
  · cases x <;> rfl
def aw_f1 (i : Nat) (ls : List (Nat × AwV)) : List (Nat × AwV) := ls.filter (fun q => !(q.1 == i) && !(q.1 + 1 == i && aw_s2 q.2))
def aw_f2 (i : Nat) (ls : List (Nat × AwV)) : List (Nat × AwV) := ls.filter (fun q => !(q.1 == i) && (!(q.1 == i + 1) && !(q.1 + 1 == i && aw_s2 q.2)))
theorem aw_f1_map (ad : Nat → Nat) (i : Nat) (ls : List (Nat × AwV)) : (ls.map fun q => (q.1, aw_cv ad q.2)).filter (fun q => !(q.1 == i) && !(q.1 + 1 == i && q.2.category == 2)) = (aw_f1 i ls).map fun q => (q.1, aw_cv ad q.2) := by
  rw [aw_f1, List.filter_map]
  congr 1
  apply List.filter_congr
  intro q _
  show (!(q.1 == i) && !(q.1 + 1 == i && (aw_cv ad q.2).category == 2)) = _
  rw [aw_cat]
theorem aw_f2_map (ad : Nat → Nat) (i : Nat) (ls : List (Nat × AwV)) : (ls.map fun q => (q.1, aw_cv ad q.2)).filter (fun q => !(q.1 == i) && (!(q.1 == i + 1) && !(q.1 + 1 == i && q.2.category == 2))) = (aw_f2 i ls).map fun q => (q.1, aw_cv ad q.2) := by
  rw [aw_f2, List.filter_map]
  congr 1
  apply List.filter_congr
  intro q _
  show (!(q.1 == i) && (!(q.1 == i + 1) && !(q.1 + 1 == i && (aw_cv ad q.2).category == 2))) = _
  rw [aw_cat]
theorem aw_at {ls : List (Nat × AwV)} {lsC : Array Slot} {nL i : Nat} {v : AwV} {ad : Nat → Nat} (h : lv_has lsC nL (ls.map fun q => (q.1, aw_cv ad q.2))) (j : Nat) (hj : ls[j]? = some (i, v)) : lsC[i]? = some (.val (aw_cv ad v)) :=
  h.2.2 (i, aw_cv ad v) (List.mem_map.mpr ⟨(i, v), List.mem_of_getElem? hj, rfl⟩)
section AwOps
variable {Y : AwM} {d pc : Nat} {ls : List (Nat × AwV)} {st : List AwV} {G : AwH} {c c1 c2 : AwC}
theorem rw_iconst {n : Int} {v : Int32} (hd : decode Y.2.1 pc = .ok (.iconst n, 1)) (hv : Int32.ofInt n = v)
    (k : RW Y d (pc + 1) ls (vI_ v :: st) G c) : RW Y d pc ls (st) G c := by
  refine rw_pure ?_ ?_ k
  · intro hl h
    exact ok_push trivial h
  · intro p l e R s m args below meth c H locs cells slots lsC ad Q hx hb hts hown hl kk
    exact lv_iconst hx hb hd hv kk
theorem rw_bipush {n : Int} {v : Int32} (hd : decode Y.2.1 pc = .ok (.bipush n, 2)) (hv : (Int8.ofInt n).toInt32 = v)
    (k : RW Y d (pc + 2) ls (vI_ v :: st) G c) : RW Y d pc ls (st) G c := by
  refine rw_pure ?_ ?_ k
  · intro hl h
    exact ok_push trivial h
  · intro p l e R s m args below meth c H locs cells slots lsC ad Q hx hb hts hown hl kk
    exact lv_bipush hx hb hd hv kk
theorem rw_sipush {n : Int} {v : Int32} (hd : decode Y.2.1 pc = .ok (.sipush n, 3)) (hv : (Int16.ofInt n).toInt32 = v)
    (k : RW Y d (pc + 3) ls (vI_ v :: st) G c) : RW Y d pc ls (st) G c := by
  refine rw_pure ?_ ?_ k
  · intro hl h
    exact ok_push trivial h
  · intro p l e R s m args below meth c H locs cells slots lsC ad Q hx hb hts hown hl kk
    exact lv_sipush hx hb hd hv kk
theorem rw_lconst {n : Fin 2} {v : Int64} (hd : decode Y.2.1 pc = .ok (.lconst n, 1)) (hv : Int64.ofNat (n : Nat) = v)
    (k : RW Y d (pc + 1) ls (vL_ v :: st) G c) : RW Y d pc ls (st) G c := by
  refine rw_pure ?_ ?_ k
  · intro hl h
    exact ok_push trivial h
  · intro p l e R s m args below meth c H locs cells slots lsC ad Q hx hb hts hown hl kk
    exact lv_lconst hx hb hd hv kk
theorem rw_null (hd : decode Y.2.1 pc = .ok (.aconst_null, 1))
    (k : RW Y d (pc + 1) ls (vA_ none :: st) G c) : RW Y d pc ls (st) G c := by
  refine rw_pure ?_ ?_ k
  · intro hl h
    exact ok_push trivial h
  · intro p l e R s m args below meth c H locs cells slots lsC ad Q hx hb hts hown hl kk
    exact lv_null hx hb hd kk
theorem rw_ldc2 {idx : Nat} {v : Int64} (hq : Cond.constantLong Y.1.cls idx v ∈ lw_all) (hd : decode Y.2.1 pc = .ok (.ldc2_w idx, 3))
    (k : RW Y d (pc + 3) ls (vL_ v :: st) G c) : RW Y d pc ls (st) G c := by
  refine rw_pure ?_ ?_ k
  · intro hl h
    exact ok_push trivial h
  · intro p l e R s m args below meth c H locs cells slots lsC ad Q hx hb hts hown hl kk
    exact lv_ldc2 hx hb hown (hts _ hq) hd kk
theorem rw_ldcw {idx : Nat} {v : Int32} (hq : Cond.constant Y.1.cls idx v ∈ lw_all) (hd : decode Y.2.1 pc = .ok (.ldc_w idx, 3))
    (k : RW Y d (pc + 3) ls (vI_ v :: st) G c) : RW Y d pc ls (st) G c := by
  refine rw_pure ?_ ?_ k
  · intro hl h
    exact ok_push trivial h
  · intro p l e R s m args below meth c H locs cells slots lsC ad Q hx hb hts hown hl kk
    exact lv_ldcw hx hb hown (hts _ hq) hd kk
theorem rw_ldc {idx : Nat} {v : Int32} (hq : Cond.constant Y.1.cls idx v ∈ lw_all) (hd : decode Y.2.1 pc = .ok (.ldc idx, 2))
    (k : RW Y d (pc + 2) ls (vI_ v :: st) G c) : RW Y d pc ls (st) G c := by
  refine rw_pure ?_ ?_ k
  · intro hl h
    exact ok_push trivial h
  · intro p l e R s m args below meth c H locs cells slots lsC ad Q hx hb hts hown hl kk
    exact lv_ldc hx hb hown (hts _ hq) hd kk
theorem rw_iload_n {n : Fin 4} {x : Int32} (hd : decode Y.2.1 pc = .ok (.iload_n n, 1)) (j : Nat) {i : Nat} (hj : ls[j]? = some (i, vI_ x)) (hi : (n : Nat) = i)
    (k : RW Y d (pc + 1) ls (vI_ x :: st) G c) : RW Y d pc ls (st) G c := by
  refine rw_pure ?_ ?_ k
  · intro hl h
    exact ok_push trivial h
  · intro p l e R s m args below meth c H locs cells slots lsC ad Q hx hb hts hown hl kk
    exact lv_iload_n hx hb hd hi (aw_at hl j hj) kk
theorem rw_iload {i : Nat} {x : Int32} (hd : decode Y.2.1 pc = .ok (.iload i, 2)) (j : Nat) (hj : ls[j]? = some (i, vI_ x))
    (k : RW Y d (pc + 2) ls (vI_ x :: st) G c) : RW Y d pc ls (st) G c := by
  refine rw_pure ?_ ?_ k
  · intro hl h
    exact ok_push trivial h
  · intro p l e R s m args below meth c H locs cells slots lsC ad Q hx hb hts hown hl kk
    exact lv_iload hx hb hd (aw_at hl j hj) kk
theorem rw_lload_n {n : Fin 4} {x : Int64} (hd : decode Y.2.1 pc = .ok (.lload_n n, 1)) (j : Nat) {i : Nat} (hj : ls[j]? = some (i, vL_ x)) (hi : (n : Nat) = i)
    (k : RW Y d (pc + 1) ls (vL_ x :: st) G c) : RW Y d pc ls (st) G c := by
  refine rw_pure ?_ ?_ k
  · intro hl h
    exact ok_push trivial h
  · intro p l e R s m args below meth c H locs cells slots lsC ad Q hx hb hts hown hl kk
    exact lv_lload_n hx hb hd hi (aw_at hl j hj) kk
theorem rw_lload {i : Nat} {x : Int64} (hd : decode Y.2.1 pc = .ok (.lload i, 2)) (j : Nat) (hj : ls[j]? = some (i, vL_ x))
    (k : RW Y d (pc + 2) ls (vL_ x :: st) G c) : RW Y d pc ls (st) G c := by
  refine rw_pure ?_ ?_ k
  · intro hl h
    exact ok_push trivial h
  · intro p l e R s m args below meth c H locs cells slots lsC ad Q hx hb hts hown hl kk
    exact lv_lload hx hb hd (aw_at hl j hj) kk
theorem rw_aload_n {n : Fin 4} {i : Nat} {x : Option Nat} (hd : decode Y.2.1 pc = .ok (.aload_n n, 1)) (j : Nat) (hj : ls[j]? = some (i, vA_ x)) (hi : (n : Nat) = i)
    (k : RW Y d (pc + 1) ls (vA_ x :: st) G c) : RW Y d pc ls st G c := by
  refine rw_pure ?_ ?_ k
  · intro hl h
    exact ok_push (hl _ (List.mem_of_getElem? hj)) h
  · intro p l e R s m args below meth c H locs cells slots lsC ad Q hx hb hts hown hl kk
    have h9 := aw_at hl j hj
    cases x with
    | none => exact lv_aload_nN hx hb hd hi h9 kk
    | some a => exact lv_aload_n hx hb hd hi h9 kk
theorem rw_aload {i : Nat} {x : Option Nat} (hd : decode Y.2.1 pc = .ok (.aload i, 2)) (j : Nat) (hj : ls[j]? = some (i, vA_ x))
    (k : RW Y d (pc + 2) ls (vA_ x :: st) G c) : RW Y d pc ls st G c := by
  refine rw_pure ?_ ?_ k
  · intro hl h
    exact ok_push (hl _ (List.mem_of_getElem? hj)) h
  · intro p l e R s m args below meth c H locs cells slots lsC ad Q hx hb hts hown hl kk
    have h9 := aw_at hl j hj
    cases x with
    | none => exact lv_aloadN hx hb hd h9 kk
    | some a => exact lv_aload hx hb hd h9 kk
theorem rw_store {pc' : Nat} {v : AwV} {ls' : List (Nat × AwV)} (hs : ∀ q ∈ ls', q.2 = v ∨ q ∈ ls)
    (hW : ∀ (p : Program) (l : Launch) (e : Env) (R : Room) (s : State) (m : MethodId) (args : Array Value) (below : List Frame) (meth : Method) (c : Code) (H : Heap) (locs : List Loc) (cells slots : Nat) (lsC : Array Slot) (ad : Nat → Nat) (Q : State → Prop),
      p.tables.exec = Jvm.exec → c.code = Y.2.1 → lv_has lsC Y.2.2.1 (ls.map fun q => (q.1, aw_cv ad q.2)) →
      (∀ lsC', lv_has lsC' Y.2.2.1 (ls'.map fun q => (q.1, aw_cv ad q.2)) → W p l e R s m args below meth c H locs cells slots Q (F0 m pc' lsC' (st.map (aw_cv ad)))) → W p l e R s m args below meth c H locs cells slots Q (F0 m pc lsC (aw_cv ad v :: st.map (aw_cv ad))))
    (k : RW Y d pc' ls' st G c) : RW Y d pc ls (v :: st) G c := by
  intro r G' e
  obtain ⟨h1, h2⟩ := k r G' e
  refine ⟨h1, fun p l e R s m args below meth c base D dA ad0 G0 C ad H locs cells slots lsC I => ?_⟩
  obtain ⟨i1, i2, i3, i4, i5, i6, i7, i8⟩ := I
  refine hW p l e R s m args below meth c H locs cells slots lsC ad _ C.1 C.2.1 i4 (fun lsC' i4' => ?_)
  refine h2 p l e R s m args below meth c base D dA ad0 G0 C ad H locs cells slots lsC' ⟨i1, i2, i3, i4', fun q hq => ?_, ok_pop i6, i7, i8⟩
  rcases hs q hq with h | h
  · rw [h]; exact ok_top i6
  · exact i5 q h
theorem aw_f1_in {i : Nat} {v : AwV} : ∀ q ∈ (i, v) :: aw_f1 i ls, q.2 = v ∨ q ∈ ls := by
  intro q h
  rcases List.mem_cons.mp h with h | h
  · exact Or.inl (by rw [h])
  · exact Or.inr (List.mem_filter.mp h).1
theorem aw_f2_in {i : Nat} {v : AwV} : ∀ q ∈ (i, v) :: aw_f2 i ls, q.2 = v ∨ q ∈ ls := by
  intro q h
  rcases List.mem_cons.mp h with h | h
  · exact Or.inl (by rw [h])
  · exact Or.inr (List.mem_filter.mp h).1
theorem rw_istore_n {n : Fin 4} {i : Nat} {x : Int32} {ls' : List (Nat × AwV)} (hd : decode Y.2.1 pc = .ok (.istore_n n, 1)) (hi : (n : Nat) = i) (hn : i < Y.2.2.1) (hl : (i, vI_ x) :: aw_f1 i ls = ls')
    (k : RW Y d (pc + 1) ls' st G c) : RW Y d pc ls (vI_ x :: st) G c := by
  subst hl
  refine rw_store aw_f1_in ?_ k
  intro p l e R s m args below meth c H locs cells slots lsC ad Q hx hb hl kk
  exact lv_istore_n hx hb hd hi hl hn (by rw [aw_f1_map]; rfl) kk
theorem rw_istore {i : Nat} {x : Int32} {ls' : List (Nat × AwV)} (hd : decode Y.2.1 pc = .ok (.istore i, 2)) (hn : i < Y.2.2.1) (hl : (i, vI_ x) :: aw_f1 i ls = ls')
    (k : RW Y d (pc + 2) ls' st G c) : RW Y d pc ls (vI_ x :: st) G c := by
  subst hl
  refine rw_store aw_f1_in ?_ k
  intro p l e R s m args below meth c H locs cells slots lsC ad Q hx hb hl kk
  exact lv_istore hx hb hd hl hn (by rw [aw_f1_map]; rfl) kk
theorem rw_lstore_n {n : Fin 4} {i : Nat} {x : Int64} {ls' : List (Nat × AwV)} (hd : decode Y.2.1 pc = .ok (.lstore_n n, 1)) (hi : (n : Nat) = i) (hn : i + 1 < Y.2.2.1) (hl : (i, vL_ x) :: aw_f2 i ls = ls')
    (k : RW Y d (pc + 1) ls' st G c) : RW Y d pc ls (vL_ x :: st) G c := by
  subst hl
  refine rw_store aw_f2_in ?_ k
  intro p l e R s m args below meth c H locs cells slots lsC ad Q hx hb hl kk
  exact lv_lstore_n hx hb hd hi hl hn (by rw [aw_f2_map]; rfl) kk
theorem rw_lstore {i : Nat} {x : Int64} {ls' : List (Nat × AwV)} (hd : decode Y.2.1 pc = .ok (.lstore i, 2)) (hn : i + 1 < Y.2.2.1) (hl : (i, vL_ x) :: aw_f2 i ls = ls')
    (k : RW Y d (pc + 2) ls' st G c) : RW Y d pc ls (vL_ x :: st) G c := by
  subst hl
  refine rw_store aw_f2_in ?_ k
  intro p l e R s m args below meth c H locs cells slots lsC ad Q hx hb hl kk
  exact lv_lstore hx hb hd hl hn (by rw [aw_f2_map]; rfl) kk
theorem rw_astore_n {n : Fin 4} {i : Nat} {x : Option Nat} {ls' : List (Nat × AwV)} (hd : decode Y.2.1 pc = .ok (.astore_n n, 1)) (hi : (n : Nat) = i) (hn : i < Y.2.2.1) (hl : (i, vA_ x) :: aw_f1 i ls = ls')
    (k : RW Y d (pc + 1) ls' st G c) : RW Y d pc ls (vA_ x :: st) G c := by
  subst hl
  refine rw_store aw_f1_in ?_ k
  intro p l e R s m args below meth c H locs cells slots lsC ad Q hx hb hl kk
  cases x with
  | none => exact lv_astore_nN hx hb hd hi hl hn (by rw [aw_f1_map]; rfl) kk
  | some a => exact lv_astore_n hx hb hd hi hl hn (by rw [aw_f1_map]; rfl) kk
theorem rw_astore {i : Nat} {x : Option Nat} {ls' : List (Nat × AwV)} (hd : decode Y.2.1 pc = .ok (.astore i, 2)) (hn : i < Y.2.2.1) (hl : (i, vA_ x) :: aw_f1 i ls = ls')
    (k : RW Y d (pc + 2) ls' st G c) : RW Y d pc ls (vA_ x :: st) G c := by
  subst hl
  refine rw_store aw_f1_in ?_ k
  intro p l e R s m args below meth c H locs cells slots lsC ad Q hx hb hl kk
  cases x with
  | none => exact lv_astoreN hx hb hd hl hn (by rw [aw_f1_map]; rfl) kk
  | some a => exact lv_astore hx hb hd hl hn (by rw [aw_f1_map]; rfl) kk
theorem rw_iinc {i j : Nat} {n : Int} {x v : Int32} {ls' : List (Nat × AwV)} (hd : decode Y.2.1 pc = .ok (.iinc i n, 3)) (hj : ls[j]? = some (i, vI_ x)) (hv : x + Int32.ofInt n = v) (hn : i < Y.2.2.1) (hl : (i, vI_ v) :: aw_f1 i ls = ls')
    (k : RW Y d (pc + 3) ls' st G c) : RW Y d pc ls st G c := by
  subst hl
  intro r G' e
  obtain ⟨h1, h2⟩ := k r G' e
  refine ⟨h1, fun p l e R s m args below meth c base D dA ad0 G0 C ad H locs cells slots lsC I => ?_⟩
  obtain ⟨i1, i2, i3, i4, i5, i6, i7, i8⟩ := I
  refine lv_iinc (lv' := ((i, vI_ v) :: aw_f1 i ls).map fun q => (q.1, aw_cv ad q.2)) C.1 C.2.1 hd i4 (k := j) (x := x) (v := v) (by simp [hj, aw_cv]) hv hn (by rw [aw_f1_map]; exact rfl) (fun lsC' i4' => ?_)
  refine h2 p l e R s m args below meth c base D dA ad0 G0 C ad H locs cells slots lsC' ⟨i1, i2, i3, i4', fun q hq => ?_, i6, i7, i8⟩
  rcases aw_f1_in q hq with h | h
  · rw [h]; trivial
  · exact i5 q h
theorem rw_iadd {x y : Int32} (hd : decode Y.2.1 pc = .ok (.iadd, 1))
    (k : RW Y d (pc + 1) ls (vI_ (x + y) :: st) G c) : RW Y d pc ls (vI_ y :: vI_ x :: st) G c := by
  refine rw_pure ?_ ?_ k
  · intro hl h
    exact ok_push trivial (ok_pop (ok_pop h))
  · intro p l e R s m args below meth c H locs cells slots lsC ad Q hx hb hts hown hl kk
    exact lv_iadd hx hb hd kk
theorem rw_isub {x y : Int32} (hd : decode Y.2.1 pc = .ok (.isub, 1))
    (k : RW Y d (pc + 1) ls (vI_ (x - y) :: st) G c) : RW Y d pc ls (vI_ y :: vI_ x :: st) G c := by
  refine rw_pure ?_ ?_ k
  · intro hl h
    exact ok_push trivial (ok_pop (ok_pop h))
  · intro p l e R s m args below meth c H locs cells slots lsC ad Q hx hb hts hown hl kk
    exact lv_isub hx hb hd kk
theorem rw_imul {x y : Int32} (hd : decode Y.2.1 pc = .ok (.imul, 1))
    (k : RW Y d (pc + 1) ls (vI_ (x * y) :: st) G c) : RW Y d pc ls (vI_ y :: vI_ x :: st) G c := by
  refine rw_pure ?_ ?_ k
  · intro hl h
    exact ok_push trivial (ok_pop (ok_pop h))
  · intro p l e R s m args below meth c H locs cells slots lsC ad Q hx hb hts hown hl kk
    exact lv_imul hx hb hd kk
theorem rw_iand {x y : Int32} (hd : decode Y.2.1 pc = .ok (.iand, 1))
    (k : RW Y d (pc + 1) ls (vI_ (x &&& y) :: st) G c) : RW Y d pc ls (vI_ y :: vI_ x :: st) G c := by
  refine rw_pure ?_ ?_ k
  · intro hl h
    exact ok_push trivial (ok_pop (ok_pop h))
  · intro p l e R s m args below meth c H locs cells slots lsC ad Q hx hb hts hown hl kk
    exact lv_iand hx hb hd kk
theorem rw_ior {x y : Int32} (hd : decode Y.2.1 pc = .ok (.ior, 1))
    (k : RW Y d (pc + 1) ls (vI_ (x ||| y) :: st) G c) : RW Y d pc ls (vI_ y :: vI_ x :: st) G c := by
  refine rw_pure ?_ ?_ k
  · intro hl h
    exact ok_push trivial (ok_pop (ok_pop h))
  · intro p l e R s m args below meth c H locs cells slots lsC ad Q hx hb hts hown hl kk
    exact lv_ior hx hb hd kk
theorem rw_idiv {x y : Int32} (hd : decode Y.2.1 pc = .ok (.idiv, 1)) (hne : ¬ y = 0)
    (k : RW Y d (pc + 1) ls (vI_ (x / y) :: st) G c) : RW Y d pc ls (vI_ y :: vI_ x :: st) G c := by
  refine rw_pure ?_ ?_ k
  · intro hl h
    exact ok_push trivial (ok_pop (ok_pop h))
  · intro p l e R s m args below meth c H locs cells slots lsC ad Q hx hb hts hown hl kk
    exact lv_idiv hx hb hd hne kk
theorem rw_irem {x y : Int32} (hd : decode Y.2.1 pc = .ok (.irem, 1)) (hne : ¬ y = 0)
    (k : RW Y d (pc + 1) ls (vI_ (x - x / y * y) :: st) G c) : RW Y d pc ls (vI_ y :: vI_ x :: st) G c := by
  refine rw_pure ?_ ?_ k
  · intro hl h
    exact ok_push trivial (ok_pop (ok_pop h))
  · intro p l e R s m args below meth c H locs cells slots lsC ad Q hx hb hts hown hl kk
    exact lv_irem hx hb hd hne kk
theorem rw_ladd {x y : Int64} (hd : decode Y.2.1 pc = .ok (.ladd, 1))
    (k : RW Y d (pc + 1) ls (vL_ (x + y) :: st) G c) : RW Y d pc ls (vL_ y :: vL_ x :: st) G c := by
  refine rw_pure ?_ ?_ k
  · intro hl h
    exact ok_push trivial (ok_pop (ok_pop h))
  · intro p l e R s m args below meth c H locs cells slots lsC ad Q hx hb hts hown hl kk
    exact lv_ladd hx hb hd kk
theorem rw_lsub {x y : Int64} (hd : decode Y.2.1 pc = .ok (.lsub, 1))
    (k : RW Y d (pc + 1) ls (vL_ (x - y) :: st) G c) : RW Y d pc ls (vL_ y :: vL_ x :: st) G c := by
  refine rw_pure ?_ ?_ k
  · intro hl h
    exact ok_push trivial (ok_pop (ok_pop h))
  · intro p l e R s m args below meth c H locs cells slots lsC ad Q hx hb hts hown hl kk
    exact lv_lsub hx hb hd kk
theorem rw_lmul {x y : Int64} (hd : decode Y.2.1 pc = .ok (.lmul, 1))
    (k : RW Y d (pc + 1) ls (vL_ (x * y) :: st) G c) : RW Y d pc ls (vL_ y :: vL_ x :: st) G c := by
  refine rw_pure ?_ ?_ k
  · intro hl h
    exact ok_push trivial (ok_pop (ok_pop h))
  · intro p l e R s m args below meth c H locs cells slots lsC ad Q hx hb hts hown hl kk
    exact lv_lmul hx hb hd kk
theorem rw_ldiv {x y : Int64} (hd : decode Y.2.1 pc = .ok (.ldiv, 1)) (hne : ¬ y = 0)
    (k : RW Y d (pc + 1) ls (vL_ (x / y) :: st) G c) : RW Y d pc ls (vL_ y :: vL_ x :: st) G c := by
  refine rw_pure ?_ ?_ k
  · intro hl h
    exact ok_push trivial (ok_pop (ok_pop h))
  · intro p l e R s m args below meth c H locs cells slots lsC ad Q hx hb hts hown hl kk
    exact lv_ldiv hx hb hd hne kk
theorem rw_lrem {x y : Int64} (hd : decode Y.2.1 pc = .ok (.lrem, 1)) (hne : ¬ y = 0)
    (k : RW Y d (pc + 1) ls (vL_ (x - x / y * y) :: st) G c) : RW Y d pc ls (vL_ y :: vL_ x :: st) G c := by
  refine rw_pure ?_ ?_ k
  · intro hl h
    exact ok_push trivial (ok_pop (ok_pop h))
  · intro p l e R s m args below meth c H locs cells slots lsC ad Q hx hb hts hown hl kk
    exact lv_lrem hx hb hd hne kk
theorem rw_lcmp {x y : Int64} (hd : decode Y.2.1 pc = .ok (.lcmp, 1))
    (k : RW Y d (pc + 1) ls (vI_ (lg_cmp x y) :: st) G c) : RW Y d pc ls (vL_ y :: vL_ x :: st) G c := by
  refine rw_pure ?_ ?_ k
  · intro hl h
    exact ok_push trivial (ok_pop (ok_pop h))
  · intro p l e R s m args below meth c H locs cells slots lsC ad Q hx hb hts hown hl kk
    exact W.lcmp hx hb hd kk
theorem rw_lneg {x : Int64} (hd : decode Y.2.1 pc = .ok (.lneg, 1))
    (k : RW Y d (pc + 1) ls (vL_ (-x) :: st) G c) : RW Y d pc ls (vL_ x :: st) G c := by
  refine rw_pure ?_ ?_ k
  · intro hl h
    exact ok_push trivial (ok_pop h)
  · intro p l e R s m args below meth c H locs cells slots lsC ad Q hx hb hts hown hl kk
    exact lv_lneg hx hb hd kk
theorem rw_lshl {x : Int64} {y : Int32} (hd : decode Y.2.1 pc = .ok (.lshl, 1))
    (k : RW Y d (pc + 1) ls (vL_ (x <<< (y.toInt64 &&& 63)) :: st) G c) : RW Y d pc ls (vI_ y :: vL_ x :: st) G c := by
  refine rw_pure ?_ ?_ k
  · intro hl h
    exact ok_push trivial (ok_pop (ok_pop h))
  · intro p l e R s m args below meth c H locs cells slots lsC ad Q hx hb hts hown hl kk
    exact lv_lshl hx hb hd rfl kk
theorem rw_lshr {x : Int64} {y : Int32} (hd : decode Y.2.1 pc = .ok (.lshr, 1))
    (k : RW Y d (pc + 1) ls (vL_ (x >>> (y.toInt64 &&& 63)) :: st) G c) : RW Y d pc ls (vI_ y :: vL_ x :: st) G c := by
  refine rw_pure ?_ ?_ k
  · intro hl h
    exact ok_push trivial (ok_pop (ok_pop h))
  · intro p l e R s m args below meth c H locs cells slots lsC ad Q hx hb hts hown hl kk
    exact lv_lshr hx hb hd rfl kk
theorem rw_i2l {x : Int32} (hd : decode Y.2.1 pc = .ok (.i2l, 1))
    (k : RW Y d (pc + 1) ls (vL_ (x.toInt64) :: st) G c) : RW Y d pc ls (vI_ x :: st) G c := by
  refine rw_pure ?_ ?_ k
  · intro hl h
    exact ok_push trivial (ok_pop h)
  · intro p l e R s m args below meth c H locs cells slots lsC ad Q hx hb hts hown hl kk
    exact lv_i2l hx hb hd rfl kk
theorem rw_l2i {x : Int64} (hd : decode Y.2.1 pc = .ok (.l2i, 1))
    (k : RW Y d (pc + 1) ls (vI_ (x.toInt32) :: st) G c) : RW Y d pc ls (vL_ x :: st) G c := by
  refine rw_pure ?_ ?_ k
  · intro hl h
    exact ok_push trivial (ok_pop h)
  · intro p l e R s m args below meth c H locs cells slots lsC ad Q hx hb hts hown hl kk
    exact lv_l2i hx hb hd rfl kk
theorem rw_i2b {x : Int32} (hd : decode Y.2.1 pc = .ok (.i2b, 1))
    (k : RW Y d (pc + 1) ls (vI_ (x.toInt8.toInt32) :: st) G c) : RW Y d pc ls (vI_ x :: st) G c := by
  refine rw_pure ?_ ?_ k
  · intro hl h
    exact ok_push trivial (ok_pop h)
  · intro p l e R s m args below meth c H locs cells slots lsC ad Q hx hb hts hown hl kk
    exact lv_i2b hx hb hd rfl kk
theorem rw_i2s {x : Int32} (hd : decode Y.2.1 pc = .ok (.i2s, 1))
    (k : RW Y d (pc + 1) ls (vI_ (x.toInt16.toInt32) :: st) G c) : RW Y d pc ls (vI_ x :: st) G c := by
  refine rw_pure ?_ ?_ k
  · intro hl h
    exact ok_push trivial (ok_pop h)
  · intro p l e R s m args below meth c H locs cells slots lsC ad Q hx hb hts hown hl kk
    exact lv_i2s hx hb hd rfl kk
theorem rw_i2c {x : Int32} (hd : decode Y.2.1 pc = .ok (.i2c, 1))
    (k : RW Y d (pc + 1) ls (vI_ ((x.toUInt32 % 65536).toInt32) :: st) G c) : RW Y d pc ls (vI_ x :: st) G c := by
  refine rw_pure ?_ ?_ k
  · intro hl h
    exact ok_push trivial (ok_pop h)
  · intro p l e R s m args below meth c H locs cells slots lsC ad Q hx hb hts hown hl kk
    exact lv_i2c hx hb hd rfl kk
theorem rw_dup {v : AwV} (hs : aw_s2 v = false) (hd : decode Y.2.1 pc = .ok (.dup, 1))
    (k : RW Y d (pc + 1) ls (v :: v :: st) G c) : RW Y d pc ls (v :: st) G c := by
  refine rw_pure ?_ ?_ k
  · intro hl h
    exact ok_push (ok_top h) h
  · intro p l e R s m args below meth c H locs cells slots lsC ad Q hx hb hts hown hl kk
    exact lv_dup hx hb hd (aw_c1 ad hs) kk
theorem rw_pop {v : AwV} (hs : aw_s2 v = false) (hd : decode Y.2.1 pc = .ok (.pop, 1))
    (k : RW Y d (pc + 1) ls (st) G c) : RW Y d pc ls (v :: st) G c := by
  refine rw_pure ?_ ?_ k
  · intro hl h
    exact ok_pop h
  · intro p l e R s m args below meth c H locs cells slots lsC ad Q hx hb hts hown hl kk
    exact lv_pop hx hb hd (aw_c1 ad hs) kk
theorem rw_dup2 {v w : AwV} (hs : aw_s2 v = false) (ht : aw_s2 w = false) (hd : decode Y.2.1 pc = .ok (.dup2, 1))
    (k : RW Y d (pc + 1) ls (v :: w :: v :: w :: st) G c) : RW Y d pc ls (v :: w :: st) G c := by
  refine rw_pure ?_ ?_ k
  · intro hl h
    exact ok_push (ok_top h) (ok_push (ok_top (ok_pop h)) h)
  · intro p l e R s m args below meth c H locs cells slots lsC ad Q hx hb hts hown hl kk
    exact lv_dup2_11 hx hb hd (aw_c1 ad hs) (aw_c1 ad ht) kk
theorem rw_goto {off : Int} {tgt : Nat} (hd : decode Y.2.1 pc = .ok (.goto off, 3)) (ht : (pc : Int) + off = (tgt : Int))
    (k : RW Y d tgt ls (st) G c) : RW Y d pc ls (st) G c := by
  refine rw_pure ?_ ?_ k
  · intro hl h
    exact h
  · intro p l e R s m args below meth c H locs cells slots lsC ad Q hx hb hts hown hl kk
    exact lv_goto hx hb hd ht kk
theorem rw_icmp_eq {x y : Int32} {off : Int} {tgt : Nat} (hd : decode Y.2.1 pc = .ok (.if_icmp .eq off, 3)) (ht : (pc : Int) + off = (tgt : Int))
    (k1 : (x = y) → RW Y d tgt ls st G c1) (k2 : ¬ (x = y) → RW Y d (pc + 3) ls st G c2) : RW Y d pc ls (vI_ y :: vI_ x :: st) G (if (x = y) then c1 else c2) := by
  refine rw_pure2 (by intro h; exact ok_pop (ok_pop h)) ?_ k1 k2
  intro p l e R s m args below meth c H locs cells slots lsC ad Q hx hb k1 k2
  exact lv_icmp_eq hx hb hd ht k1 k2
theorem rw_icmp_ne {x y : Int32} {off : Int} {tgt : Nat} (hd : decode Y.2.1 pc = .ok (.if_icmp .ne off, 3)) (ht : (pc : Int) + off = (tgt : Int))
    (k1 : (x = y) → RW Y d (pc + 3) ls st G c1) (k2 : ¬ (x = y) → RW Y d tgt ls st G c2) : RW Y d pc ls (vI_ y :: vI_ x :: st) G (if (x = y) then c1 else c2) := by
  refine rw_pure2 (by intro h; exact ok_pop (ok_pop h)) ?_ k1 k2
  intro p l e R s m args below meth c H locs cells slots lsC ad Q hx hb k1 k2
  exact lv_icmp_ne hx hb hd ht k2 k1
theorem rw_icmp_lt {x y : Int32} {off : Int} {tgt : Nat} (hd : decode Y.2.1 pc = .ok (.if_icmp .lt off, 3)) (ht : (pc : Int) + off = (tgt : Int))
    (k1 : (x < y) → RW Y d tgt ls st G c1) (k2 : ¬ (x < y) → RW Y d (pc + 3) ls st G c2) : RW Y d pc ls (vI_ y :: vI_ x :: st) G (if (x < y) then c1 else c2) := by
  refine rw_pure2 (by intro h; exact ok_pop (ok_pop h)) ?_ k1 k2
  intro p l e R s m args below meth c H locs cells slots lsC ad Q hx hb k1 k2
  exact lv_icmp_lt hx hb hd ht k1 k2
theorem rw_icmp_ge {x y : Int32} {off : Int} {tgt : Nat} (hd : decode Y.2.1 pc = .ok (.if_icmp .ge off, 3)) (ht : (pc : Int) + off = (tgt : Int))
    (k1 : (y ≤ x) → RW Y d tgt ls st G c1) (k2 : ¬ (y ≤ x) → RW Y d (pc + 3) ls st G c2) : RW Y d pc ls (vI_ y :: vI_ x :: st) G (if (y ≤ x) then c1 else c2) := by
  refine rw_pure2 (by intro h; exact ok_pop (ok_pop h)) ?_ k1 k2
  intro p l e R s m args below meth c H locs cells slots lsC ad Q hx hb k1 k2
  exact lv_icmp_ge hx hb hd ht k1 k2
theorem rw_icmp_gt {x y : Int32} {off : Int} {tgt : Nat} (hd : decode Y.2.1 pc = .ok (.if_icmp .gt off, 3)) (ht : (pc : Int) + off = (tgt : Int))
    (k1 : (y < x) → RW Y d tgt ls st G c1) (k2 : ¬ (y < x) → RW Y d (pc + 3) ls st G c2) : RW Y d pc ls (vI_ y :: vI_ x :: st) G (if (y < x) then c1 else c2) := by
  refine rw_pure2 (by intro h; exact ok_pop (ok_pop h)) ?_ k1 k2
  intro p l e R s m args below meth c H locs cells slots lsC ad Q hx hb k1 k2
  exact lv_icmp_gt hx hb hd ht k1 k2
theorem rw_icmp_le {x y : Int32} {off : Int} {tgt : Nat} (hd : decode Y.2.1 pc = .ok (.if_icmp .le off, 3)) (ht : (pc : Int) + off = (tgt : Int))
    (k1 : (x ≤ y) → RW Y d tgt ls st G c1) (k2 : ¬ (x ≤ y) → RW Y d (pc + 3) ls st G c2) : RW Y d pc ls (vI_ y :: vI_ x :: st) G (if (x ≤ y) then c1 else c2) := by
  refine rw_pure2 (by intro h; exact ok_pop (ok_pop h)) ?_ k1 k2
  intro p l e R s m args below meth c H locs cells slots lsC ad Q hx hb k1 k2
  exact lv_icmp_le hx hb hd ht k1 k2
theorem rw_if_eq {x : Int32} {off : Int} {tgt : Nat} (hd : decode Y.2.1 pc = .ok (.ifCond .eq off, 3)) (ht : (pc : Int) + off = (tgt : Int))
    (k1 : (x = 0) → RW Y d tgt ls st G c1) (k2 : ¬ (x = 0) → RW Y d (pc + 3) ls st G c2) : RW Y d pc ls (vI_ x :: st) G (if (x = 0) then c1 else c2) := by
  refine rw_pure2 (by intro h; exact ok_pop h) ?_ k1 k2
  intro p l e R s m args below meth c H locs cells slots lsC ad Q hx hb k1 k2
  exact lv_if_eq hx hb hd ht k1 k2
theorem rw_if_ne {x : Int32} {off : Int} {tgt : Nat} (hd : decode Y.2.1 pc = .ok (.ifCond .ne off, 3)) (ht : (pc : Int) + off = (tgt : Int))
    (k1 : (x = 0) → RW Y d (pc + 3) ls st G c1) (k2 : ¬ (x = 0) → RW Y d tgt ls st G c2) : RW Y d pc ls (vI_ x :: st) G (if (x = 0) then c1 else c2) := by
  refine rw_pure2 (by intro h; exact ok_pop h) ?_ k1 k2
  intro p l e R s m args below meth c H locs cells slots lsC ad Q hx hb k1 k2
  exact lv_if_ne hx hb hd ht k2 k1
theorem rw_if_lt {x : Int32} {off : Int} {tgt : Nat} (hd : decode Y.2.1 pc = .ok (.ifCond .lt off, 3)) (ht : (pc : Int) + off = (tgt : Int))
    (k1 : (x < 0) → RW Y d tgt ls st G c1) (k2 : ¬ (x < 0) → RW Y d (pc + 3) ls st G c2) : RW Y d pc ls (vI_ x :: st) G (if (x < 0) then c1 else c2) := by
  refine rw_pure2 (by intro h; exact ok_pop h) ?_ k1 k2
  intro p l e R s m args below meth c H locs cells slots lsC ad Q hx hb k1 k2
  exact lv_if_lt hx hb hd ht k1 k2
theorem rw_if_ge {x : Int32} {off : Int} {tgt : Nat} (hd : decode Y.2.1 pc = .ok (.ifCond .ge off, 3)) (ht : (pc : Int) + off = (tgt : Int))
    (k1 : (0 ≤ x) → RW Y d tgt ls st G c1) (k2 : ¬ (0 ≤ x) → RW Y d (pc + 3) ls st G c2) : RW Y d pc ls (vI_ x :: st) G (if (0 ≤ x) then c1 else c2) := by
  refine rw_pure2 (by intro h; exact ok_pop h) ?_ k1 k2
  intro p l e R s m args below meth c H locs cells slots lsC ad Q hx hb k1 k2
  exact lv_if_ge hx hb hd ht k1 k2
theorem rw_if_gt {x : Int32} {off : Int} {tgt : Nat} (hd : decode Y.2.1 pc = .ok (.ifCond .gt off, 3)) (ht : (pc : Int) + off = (tgt : Int))
    (k1 : (0 < x) → RW Y d tgt ls st G c1) (k2 : ¬ (0 < x) → RW Y d (pc + 3) ls st G c2) : RW Y d pc ls (vI_ x :: st) G (if (0 < x) then c1 else c2) := by
  refine rw_pure2 (by intro h; exact ok_pop h) ?_ k1 k2
  intro p l e R s m args below meth c H locs cells slots lsC ad Q hx hb k1 k2
  exact lv_if_gt hx hb hd ht k1 k2
theorem rw_if_le {x : Int32} {off : Int} {tgt : Nat} (hd : decode Y.2.1 pc = .ok (.ifCond .le off, 3)) (ht : (pc : Int) + off = (tgt : Int))
    (k1 : (x ≤ 0) → RW Y d tgt ls st G c1) (k2 : ¬ (x ≤ 0) → RW Y d (pc + 3) ls st G c2) : RW Y d pc ls (vI_ x :: st) G (if (x ≤ 0) then c1 else c2) := by
  refine rw_pure2 (by intro h; exact ok_pop h) ?_ k1 k2
  intro p l e R s m args below meth c H locs cells slots lsC ad Q hx hb k1 k2
  exact lv_if_le hx hb hd ht k1 k2
theorem rw_ifnull {x : Option Nat} {f : Nat → AwC} {off : Int} {tgt : Nat} (hd : decode Y.2.1 pc = .ok (.ifnull off, 3)) (ht : (pc : Int) + off = (tgt : Int))
    (kn : x = none → RW Y d (tgt) ls st G c) (ks : ∀ a, x = some a → RW Y d (pc + 3) ls st G (f a)) : RW Y d pc ls (vA_ x :: st) G (on_ x c f) := by
  cases x with
  | none =>
    refine rw_pure (fun _ h => ok_pop h) ?_ (kn rfl)
    intro p l e R s m args below meth c H locs cells slots lsC ad Q hx hb hts hown hl kk
    exact lv_ifnullN hx hb hd ht kk
  | some a =>
    refine rw_pure (fun _ h => ok_pop h) ?_ (ks a rfl)
    intro p l e R s m args below meth c H locs cells slots lsC ad Q hx hb hts hown hl kk
    exact lv_ifnull hx hb hd kk
theorem rw_ifnonnull {x : Option Nat} {f : Nat → AwC} {off : Int} {tgt : Nat} (hd : decode Y.2.1 pc = .ok (.ifnonnull off, 3)) (ht : (pc : Int) + off = (tgt : Int))
    (kn : x = none → RW Y d (pc + 3) ls st G c) (ks : ∀ a, x = some a → RW Y d (tgt) ls st G (f a)) : RW Y d pc ls (vA_ x :: st) G (on_ x c f) := by
  cases x with
  | none =>
    refine rw_pure (fun _ h => ok_pop h) ?_ (kn rfl)
    intro p l e R s m args below meth c H locs cells slots lsC ad Q hx hb hts hown hl kk
    exact lv_ifnonnullN hx hb hd kk
  | some a =>
    refine rw_pure (fun _ h => ok_pop h) ?_ (ks a rfl)
    intro p l e R s m args below meth c H locs cells slots lsC ad Q hx hb hts hown hl kk
    exact lv_ifnonnull hx hb hd ht kk
theorem rw_ifnullL {x : Option Nat} {f : Nat → AwC} {off : Int} {tgt : Nat} {lsf : Option Nat → List (Nat × AwV)} {stf : Option Nat → List AwV} (hd : decode Y.2.1 pc = .ok (.ifnull off, 3)) (ht : (pc : Int) + off = (tgt : Int))
    (kn : x = none → RW Y d (tgt) (lsf x) (stf x) G c) (ks : ∀ a, x = some a → RW Y d (pc + 3) (lsf (some a)) (stf (some a)) G (f a)) : RW Y d pc (lsf x) (vA_ x :: stf x) G (on_ x c f) := by
  cases x with
  | none => exact rw_ifnull (f := f) hd ht kn (fun a h => nomatch h)
  | some a => exact rw_ifnull (c := c) (f := f) hd ht (fun h => nomatch h) (fun b h => by cases h; exact ks a rfl)
theorem rw_ifnonnullL {x : Option Nat} {f : Nat → AwC} {off : Int} {tgt : Nat} {lsf : Option Nat → List (Nat × AwV)} {stf : Option Nat → List AwV} (hd : decode Y.2.1 pc = .ok (.ifnonnull off, 3)) (ht : (pc : Int) + off = (tgt : Int))
    (kn : x = none → RW Y d (pc + 3) (lsf x) (stf x) G c) (ks : ∀ a, x = some a → RW Y d (tgt) (lsf (some a)) (stf (some a)) G (f a)) : RW Y d pc (lsf x) (vA_ x :: stf x) G (on_ x c f) := by
  cases x with
  | none => exact rw_ifnonnull (f := f) hd ht kn (fun a h => nomatch h)
  | some a => exact rw_ifnonnull (c := c) (f := f) hd ht (fun h => nomatch h) (fun b h => by cases h; exact ks a rfl)
theorem rw_tsIn {x v : Int32} {dflt lo hi : Int} {offs : Array Int} {len : Nat} {off : Int} {tgt : Nat} (hd : decode Y.2.1 pc = .ok (.tableswitch dflt lo hi offs, len)) (hx9 : x = v) (h1 : lo ≤ v.toInt ∧ v.toInt ≤ hi) (ho : offs[(v.toInt - lo).toNat]? = some off) (ht : (pc : Int) + off = (tgt : Int))
    (k : RW Y d tgt ls st G c) : RW Y d pc ls (vI_ x :: st) G c := by
  subst hx9
  refine rw_pure (fun _ h => ok_pop h) ?_ k
  intro p l e R s m args below meth c H locs cells slots lsC ad Q hx hb hts hown hl kk
  exact lv_tableIn hx hb hd (by omega) (by omega) ho ht kk
theorem rw_tsOut {x : Int32} {dflt lo hi : Int} {offs : Array Int} {len : Nat} {tgt : Nat} (hd : decode Y.2.1 pc = .ok (.tableswitch dflt lo hi offs, len)) (h : x.toInt < lo ∨ hi < x.toInt) (ht : (pc : Int) + dflt = (tgt : Int))
    (k : RW Y d tgt ls st G c) : RW Y d pc ls (vI_ x :: st) G c := by
  refine rw_pure (fun _ h => ok_pop h) ?_ k
  intro p l e R s m args below meth c H locs cells slots lsC ad Q hx hb hts hown hl kk
  exact lv_tableOut hx hb hd h ht kk
theorem ts_out {x : Int32} {n : Nat} (hn : n < 2 ^ 31) (h : ∀ k, k < n → ¬ x = nI k) : x.toInt < 0 ∨ (n : Int) ≤ x.toInt := by
  by_cases h0 : x < 0
  · exact Or.inl (by have := Int32.lt_iff_toInt_lt.mp h0; simpa using this)
  · obtain ⟨j, hj, e⟩ := nI_of h0
    right
    rw [e, nI_toInt hj]
    rcases Nat.lt_or_ge j n with q | q
    · exact absurd e (h j q)
    · exact Int.ofNat_le.mpr q
end AwOps
