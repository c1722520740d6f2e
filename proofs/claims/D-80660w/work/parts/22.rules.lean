/-! ===== methods, their start, their end; a frame on an abstract heap ===== -/
/-- a method: name, bytes, places of locals, answer, handlers -/
abbrev AwM : Type := MethodName × ByteArray × Nat × Option FieldType × List (Nat × Nat × Nat × Nat)
def aw_ex : Nat → String
  | 0 => "java/lang/NullPointerException"
  | 1 => "java/lang/ArrayIndexOutOfBoundsException"
  | 2 => "java/lang/ClassCastException"
  | 3 => "java/lang/ArrayStoreException"
  | _ => "java/lang/NegativeArraySizeException"
def aw_rm (d mc ms : Nat) : Room := { frames := d + 8, cells := mc, slots := ms, locals := 40 * d + 10300 }
def aw_ext (G : AwH) (ad ad' : Nat → Nat) (G' : AwH) : Prop := (∀ a ∈ gA_ G, ad' a = ad a ∧ a ∈ gA_ G') ∧ ad' (gZ_ G) = ad (gZ_ G) ∧ gZ_ G' = gZ_ G
def aw_Q (base : Nat) (D : va_G) (dA : Nat → ClassId) (ad : Nat → Nat) (G : AwH) (r : AwR) (G' : AwH) : Array Value → State → Outcome → State → Prop := fun _ st o t =>
  (∃ (ad' : Nat → Nat) (v : Option AwV), r = .inl v ∧ o = .returned (v.map (aw_cv ad')) ∧ aw_ext G ad ad' G' ∧ aw_hp base D dA ad' G' t t.heap ∧ ∀ x, v = some x → aw_ok G' x) ∧ va_F (fun q => base ≤ q) st t
def aw_XC (base : Nat) (D : va_G) (dA : Nat → ClassId) (ad : Nat → Nat) (G : AwH) (r : AwR) (G' : AwH) : String → State → State → Prop := fun E st t =>
  (∃ (ad' : Nat → Nat) (e : Nat), r = .inr e ∧ E = aw_ex e ∧ aw_ext G ad ad' G' ∧ aw_hp base D dA ad' G' t t.heap) ∧ va_F (fun q => base ≤ q) st t
def aw_B (base : Nat) (D : va_G) (dA : Nat → ClassId) (ad : Nat → Nat) (G : AwH) (vs : List AwV) (U : State) : Prop :=
  aw_T D dA U ∧ aw_Zs base U U.heap ∧ aw_hp base D dA ad G U U.heap ∧ ∀ v ∈ vs, aw_ok G v
abbrev aw_wd (Y : AwM) : List Cond := match Y.2.2.2.2 with
  | [] => ws_ Y.1 Y.2.1 Y.2.2.1 Y.2.2.2.1
  | hh => wsW_ Y.1 Y.2.1 Y.2.2.1 Y.2.2.2.1 hh
/-- the machine runs Y on vs over G to r over G' -/
def AM (Y : AwM) (d : Nat) (vs : List AwV) (G : AwH) (r : AwR) (G' : AwH) : Prop :=
  ∀ (l : Launch) (base : Nat) (D : va_G) (dA : Nat → ClassId) (ad : Nat → Nat), l.stackTraces = false →
    vx_Met l Y.1 (aw_wd Y) (aw_rm d (gC_ G' - gC_ G) (gS_ G' - gS_ G)) (va_Pc (vs.map (aw_cv ad)) (aw_B base D dA ad G vs)) (aw_Q base D dA ad G r G') (aw_XC base D dA ad G r G') (gC_ G' - gC_ G) (gS_ G' - gS_ G) (fun q => base ≤ q)
def aw_mo (G G' : AwH) : Prop := gC_ G ≤ gC_ G' ∧ gS_ G ≤ gS_ G' ∧ gZ_ G' = gZ_ G ∧ ∀ a ∈ gA_ G, a ∈ gA_ G'
theorem aw_mo.rf {G : AwH} : aw_mo G G := ⟨Nat.le_refl _, Nat.le_refl _, rfl, fun _ h => h⟩
theorem aw_mo.tr {G G1 G2 : AwH} (h : aw_mo G G1) (k : aw_mo G1 G2) : aw_mo G G2 := ⟨Nat.le_trans h.1 k.1, Nat.le_trans h.2.1 k.2.1, k.2.2.1.trans h.2.2.1, fun a q => k.2.2.2 a (h.2.2.2 a q)⟩
/-- Y's runs are what c tells -/
def RM (Y : AwM) (d : Nat) (vs : List AwV) (G : AwH) (c : AwC) : Prop := ∀ r G', c = some (r, G') → aw_mo G G' ∧ AM Y d vs G r G'
/-- what stands fast while Y runs -/
def aw_cx (Y : AwM) (d mc ms : Nat) (p : Program) (l : Launch) (R : Room) (s : State) (m : MethodId) (args : Array Value) (meth : Method) (c : Code) (base : Nat) (D : va_G) (dA : Nat → ClassId) : Prop :=
  p.tables.exec = Jvm.exec ∧ c.code = Y.2.1 ∧ (∀ w ∈ lw_all, w.before args s = true) ∧ s.vm.findClass Y.1.cls = some m.cls ∧ meth.locks = false ∧ meth.sig.returnType = Y.2.2.2.1 ∧ c.maxLocals = Y.2.2.1 ∧ c.exceptionTable.toList = tableOf Y.2.2.2.2 ∧ meth.name = Y.1.name ∧ l.stackTraces = false ∧
  d + 8 ≤ R.frames ∧ 40 * d + 10300 ≤ R.locals ∧ mc ≤ R.cells ∧ ms ≤ R.slots ∧ aw_T D dA s ∧ aw_Zs base s s.heap ∧ base ≤ s.heap.size
/-- what holds at a frame -/
def aw_in (Y : AwM) (s : State) (base : Nat) (D : va_G) (dA : Nat → ClassId) (ad0 : Nat → Nat) (G0 : AwH) (ls : List (Nat × AwV)) (st : List AwV) (G : AwH) (ad : Nat → Nat) (H : Heap) (locs : List Loc) (cells slots : Nat) (lsC : Array Slot) : Prop :=
  aw_ext G0 ad0 ad G ∧ aw_hp base D dA ad G s H ∧ va_S (fun q => base ≤ q) s.heap H locs ∧ lv_has lsC Y.2.2.1 (ls.map fun q => (q.1, aw_cv ad q.2)) ∧ (∀ q ∈ ls, aw_ok G q.2) ∧ (∀ v ∈ st, aw_ok G v) ∧ cells + gC_ G0 ≤ gC_ G ∧ slots + gS_ G0 ≤ gS_ G
abbrev aw_PQ (below : List Frame) (base : Nat) (D : va_G) (dA : Nat → ClassId) (ad0 : Nat → Nat) (G0 : AwH) (r : AwR) (G' : AwH) (args : Array Value) (s : State) : State → Prop :=
  vx_MQ below (aw_Q base D dA ad0 G0 r G') (aw_XC base D dA ad0 G0 r G') args s (gC_ G' - gC_ G0) (gS_ G' - gS_ G0) (fun q => base ≤ q)
/-- from the frame at pc with ls, st over G the machine comes to Y's end with r over G' -/
def AW (Y : AwM) (d pc : Nat) (ls : List (Nat × AwV)) (st : List AwV) (G : AwH) (r : AwR) (G' : AwH) : Prop :=
  ∀ (p : Program) (l : Launch) (e : Env) (R : Room) (s : State) (m : MethodId) (args : Array Value) (below : List Frame) (meth : Method) (c : Code) (base : Nat) (D : va_G) (dA : Nat → ClassId) (ad0 : Nat → Nat) (G0 : AwH),
    aw_cx Y d (gC_ G' - gC_ G0) (gS_ G' - gS_ G0) p l R s m args meth c base D dA → ∀ (ad : Nat → Nat) (H : Heap) (locs : List Loc) (cells slots : Nat) (lsC : Array Slot), aw_in Y s base D dA ad0 G0 ls st G ad H locs cells slots lsC →
      W p l e R s m args below meth c H locs cells slots (aw_PQ below base D dA ad0 G0 r G' args s) (F0 m pc lsC (st.map (aw_cv ad)))
/-- the same, with the exception e over the frame -/
def AX (Y : AwM) (d pc : Nat) (ls : List (Nat × AwV)) (G : AwH) (x : Nat) (r : AwR) (G' : AwH) : Prop :=
  ∀ (p : Program) (l : Launch) (e : Env) (R : Room) (s : State) (m : MethodId) (args : Array Value) (below : List Frame) (meth : Method) (c : Code) (base : Nat) (D : va_G) (dA : Nat → ClassId) (ad0 : Nat → Nat) (G0 : AwH),
    aw_cx Y d (gC_ G' - gC_ G0) (gS_ G' - gS_ G0) p l R s m args meth c base D dA → ∀ (ad : Nat → Nat) (H : Heap) (locs : List Loc) (cells slots : Nat) (lsC : Array Slot) (rest : List Value) (q : Addr) (ce : Cell), aw_in Y s base D dA ad0 G0 ls [] G ad H locs cells slots lsC →
      H[q]? = some ce → ce.vm = .none → s.vm.findClass (aw_ex x) = some ce.cls →
      vx_W p l e R s m args below meth c H locs cells slots (aw_PQ below base D dA ad0 G0 r G' args s) (F0 m pc lsC rest) q
def RW (Y : AwM) (d pc : Nat) (ls : List (Nat × AwV)) (st : List AwV) (G : AwH) (c : AwC) : Prop := ∀ r G', c = some (r, G') → aw_mo G G' ∧ AW Y d pc ls st G r G'
def RX (Y : AwM) (d pc : Nat) (ls : List (Nat × AwV)) (G : AwH) (x : Nat) (c : AwC) : Prop := ∀ r G', c = some (r, G') → aw_mo G G' ∧ AX Y d pc ls G x r G'
theorem rw_none {Y : AwM} {d pc : Nat} {ls : List (Nat × AwV)} {st : List AwV} {G : AwH} : RW Y d pc ls st G none := fun _ _ h => nomatch h
theorem rx_none {Y : AwM} {d pc : Nat} {ls : List (Nat × AwV)} {G : AwH} {x : Nat} : RX Y d pc ls G x none := fun _ _ h => nomatch h
section AwRules
variable {Y : AwM} {d pc : Nat} {ls : List (Nat × AwV)} {st : List AwV} {G : AwH} {c c1 c2 : AwC}
theorem rw_gd {b : Bool} (h : b = true → RW Y d pc ls st G c) : RW Y d pc ls st G (gd_ b c) := by
  unfold gd_
  by_cases e : b = true
  · rw [if_pos e]; exact h e
  · rw [if_neg e]; exact rw_none
theorem rw_on {x : Option Nat} {f : Nat → AwC} (hn : x = none → RW Y d pc ls st G c) (hs : ∀ a, x = some a → RW Y d pc ls st G (f a)) : RW Y d pc ls st G (on_ x c f) := by
  cases x with
  | none => exact hn rfl
  | some a => exact hs a rfl
theorem rw_if {P : Prop} {hP : Decidable P} (h1 : P → RW Y d pc ls st G c1) (h2 : ¬ P → RW Y d pc ls st G c2) : RW Y d pc ls st G (if P then c1 else c2) := by
  by_cases e : P
  · rw [if_pos e]; exact h1 e
  · rw [if_neg e]; exact h2 e
theorem rw_jn {τ : Type} {j : τ} {b : τ → AwC} {P : τ → Prop} (h1 : P j) (h2 : ∀ j', P j' → RW Y d pc ls st G (b j')) : RW Y d pc ls st G (jn_ j b) := h2 j h1
theorem rw_lp {τ : Type} {z : τ} {b : τ → τ} {P : τ → Prop} (h0 : P z) (hb : ∀ rec, P rec → P (b rec)) : ∀ (n : Nat), P (lp_ z b n)
  | 0 => h0
  | n + 1 => hb (lp_ z b n) (rw_lp h0 hb n)
theorem rw_nm {k : AwH → AwC} (h : ∀ G1, RW Y d pc ls st G1 (k G1)) : RW Y d pc ls st G (nm_ G k) := h G
theorem rw_nn {a t : Nat} {k : Nat → AwH → AwC} (ht : tk_ [t] a = true) (h : ∀ b G1, tk_ [t] b = true → RW Y d pc ls (vA_ (some b) :: st) G1 (k b G1)) : RW Y d pc ls (vA_ (some a) :: st) G (nn_ a G k) := h a G ht
/-- a reference is asked whether it is null; where it isn't it is known wherever it stands -/
theorem rw_onL {x : Option Nat} {f : Nat → AwC} {lsf : Option Nat → List (Nat × AwV)} {stf : Option Nat → List AwV} (hn : x = none → RW Y d pc (lsf x) (stf x) G c) (hs : ∀ a, x = some a → RW Y d pc (lsf (some a)) (stf (some a)) G (f a)) : RW Y d pc (lsf x) (stf x) G (on_ x c f) := by
  cases x with
  | none => exact hn rfl
  | some a => exact hs a rfl
/-- the locals in any order, fewer -/
theorem rw_ls {ls' : List (Nat × AwV)} (h : ∀ q ∈ ls', q ∈ ls) (k : RW Y d pc ls' st G c) : RW Y d pc ls st G c := by
  intro r G' e
  obtain ⟨h1, h2⟩ := k r G' e
  refine ⟨h1, fun p l e R s m args below meth c base D dA ad0 G0 C ad H locs cells slots lsC I => ?_⟩
  obtain ⟨i1, i2, i3, i4, i5, i6, i7, i8⟩ := I
  refine h2 p l e R s m args below meth c base D dA ad0 G0 C ad H locs cells slots lsC ⟨i1, i2, i3, ⟨i4.1, i4.2.1, fun q hq => ?_⟩, fun q hq => i5 q (h q hq), i6, i7, i8⟩
  obtain ⟨q1, hq1, rfl⟩ := List.mem_map.mp hq
  exact i4.2.2 _ (List.mem_map.mpr ⟨q1, h q1 hq1, rfl⟩)
theorem rw_pick (ks : List Nat) {ls' : List (Nat × AwV)} (h : ks.filterMap (fun k => ls[k]?) = ls') (k : RW Y d pc ls' st G c) : RW Y d pc ls st G c := by
  refine rw_ls (fun q hq => ?_) k
  rw [← h] at hq
  obtain ⟨i, -, hi⟩ := List.mem_filterMap.mp hq
  exact List.mem_of_getElem? hi
theorem rw_eq {c' : AwC} (h : c = c') (k : RW Y d pc ls st G c') : RW Y d pc ls st G c := h ▸ k
/-- an instruction that leaves heap and locals -/
theorem rw_pure {pc' : Nat} {st' : List AwV} (ho : (∀ q ∈ ls, aw_ok G q.2) → (∀ v ∈ st, aw_ok G v) → ∀ v ∈ st', aw_ok G v)
    (hW : ∀ (p : Program) (l : Launch) (e : Env) (R : Room) (s : State) (m : MethodId) (args : Array Value) (below : List Frame) (meth : Method) (c : Code) (H : Heap) (locs : List Loc) (cells slots : Nat) (lsC : Array Slot) (ad : Nat → Nat) (Q : State → Prop),
      p.tables.exec = Jvm.exec → c.code = Y.2.1 → (∀ w ∈ lw_all, w.before args s = true) → s.vm.findClass Y.1.cls = some m.cls → lv_has lsC Y.2.2.1 (ls.map fun q => (q.1, aw_cv ad q.2)) →
      W p l e R s m args below meth c H locs cells slots Q (F0 m pc' lsC (st'.map (aw_cv ad))) → W p l e R s m args below meth c H locs cells slots Q (F0 m pc lsC (st.map (aw_cv ad))))
    (k : RW Y d pc' ls st' G c) : RW Y d pc ls st G c := by
  intro r G' e
  obtain ⟨h1, h2⟩ := k r G' e
  refine ⟨h1, fun p l e R s m args below meth c base D dA ad0 G0 C ad H locs cells slots lsC I => ?_⟩
  have I' := I
  obtain ⟨i1, i2, i3, i4, i5, i6, i7, i8⟩ := I
  exact hW p l e R s m args below meth c H locs cells slots lsC ad _ C.1 C.2.1 C.2.2.1 C.2.2.2.1 i4 (h2 p l e R s m args below meth c base D dA ad0 G0 C ad H locs cells slots lsC ⟨i1, i2, i3, i4, i5, ho i5 i6, i7, i8⟩)
/-- a branch -/
theorem rw_pure2 {pc1 pc2 : Nat} {st' : List AwV} {P : Prop} {hP : Decidable P} (ho : (∀ v ∈ st, aw_ok G v) → ∀ v ∈ st', aw_ok G v)
    (hW : ∀ (p : Program) (l : Launch) (e : Env) (R : Room) (s : State) (m : MethodId) (args : Array Value) (below : List Frame) (meth : Method) (c : Code) (H : Heap) (locs : List Loc) (cells slots : Nat) (lsC : Array Slot) (ad : Nat → Nat) (Q : State → Prop),
      p.tables.exec = Jvm.exec → c.code = Y.2.1 →
      (P → W p l e R s m args below meth c H locs cells slots Q (F0 m pc1 lsC (st'.map (aw_cv ad)))) → (¬ P → W p l e R s m args below meth c H locs cells slots Q (F0 m pc2 lsC (st'.map (aw_cv ad)))) → W p l e R s m args below meth c H locs cells slots Q (F0 m pc lsC (st.map (aw_cv ad))))
    (k1 : P → RW Y d pc1 ls st' G c1) (k2 : ¬ P → RW Y d pc2 ls st' G c2) : RW Y d pc ls st G (if P then c1 else c2) := by
  intro r G' e
  by_cases hp : P
  · rw [if_pos hp] at e
    obtain ⟨h1, h2⟩ := k1 hp r G' e
    refine ⟨h1, fun p l e R s m args below meth c base D dA ad0 G0 C ad H locs cells slots lsC I => ?_⟩
    obtain ⟨i1, i2, i3, i4, i5, i6, i7, i8⟩ := I
    exact hW p l e R s m args below meth c H locs cells slots lsC ad _ C.1 C.2.1 (fun _ => h2 p l e R s m args below meth c base D dA ad0 G0 C ad H locs cells slots lsC ⟨i1, i2, i3, i4, i5, ho i6, i7, i8⟩) (fun q => absurd hp q)
  · rw [if_neg hp] at e
    obtain ⟨h1, h2⟩ := k2 hp r G' e
    refine ⟨h1, fun p l e R s m args below meth c base D dA ad0 G0 C ad H locs cells slots lsC I => ?_⟩
    obtain ⟨i1, i2, i3, i4, i5, i6, i7, i8⟩ := I
    exact hW p l e R s m args below meth c H locs cells slots lsC ad _ C.1 C.2.1 (fun q => absurd q hp) (fun _ => h2 p l e R s m args below meth c base D dA ad0 G0 C ad H locs cells slots lsC ⟨i1, i2, i3, i4, i5, ho i6, i7, i8⟩)
theorem ok_push {v : AwV} (hv : aw_ok G v) (h : ∀ w ∈ st, aw_ok G w) : ∀ w ∈ v :: st, aw_ok G w := List.forall_mem_cons.mpr ⟨hv, h⟩
theorem ok_pop {v : AwV} (h : ∀ w ∈ v :: st, aw_ok G w) : ∀ w ∈ st, aw_ok G w := (List.forall_mem_cons.mp h).2
theorem ok_top {v : AwV} (h : ∀ w ∈ v :: st, aw_ok G w) : aw_ok G v := (List.forall_mem_cons.mp h).1
end AwRules
