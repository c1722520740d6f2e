/-! StaveScore$Fraction.<init>()V -/
abbrev YX1_init : AwM := (yX1_init, cX1_init, 1, none, [])
theorem cb_X1_init : aw_cb YX1_init 0 := ⟨q121, q64, ⟨by decide +kernel, by decide +kernel, by decide +kernel⟩, by decide, rfl⟩
def fc_X1_init (a0 : Nat) (G : AwH) : AwC :=
  nm_ (sL_ G a0 1 1) fun G1 =>
  rV_ G1
theorem rm_X1_init (a0 : Nat) (G : AwH) (h0 : tk_ [1] a0 = true) : RM YX1_init 1 [vA_ (some a0)] G (fc_X1_init a0 G) := by
  refine rm_of rfl (by decide +kernel) (Nat.le_of_ble_eq_true rfl) ?_
  show RW YX1_init 1 0 [(0, vA_ (some a0))] [] G _
  unfold fc_X1_init
  refine rw_aload_n dX1_init_0 0 rfl rfl ?_
  refine rw_objInit q122 q100 q101 dX1_init_1 rfl (Nat.le_of_ble_eq_true rfl) ?_
  refine rw_aload_n dX1_init_4 0 rfl rfl ?_
  refine rw_lconst dX1_init_5 lc_1 ?_
  refine rw_putL fk1_1 fk1_1_t (fin_var fk1_1_v) q124 dX1_init_6 rfl h0 (rw_nm fun G1 => ?_)
  exact rw_vret rfl dX1_init_9
/-! StaveScore$Fraction.shared(JJ)J -/
abbrev YX1_shared : AwM := (yX1_shared, cX1_shared, 10, some Jvm.ClassFile.FieldType.long, [])
theorem cb_X1_shared : aw_cb YX1_shared 2 := ⟨q339, q64, ⟨by decide +kernel, by decide +kernel, by decide +kernel⟩, by decide, rfl⟩
def lb_X1_shared_6  (ke : Int64 → AwH → AwC) (rec : Int64 → Int64 → AwH → AwC) : Int64 → Int64 → AwH → AwC := fun (x4 : Int64) (x6 : Int64) (G : AwH) =>
  if (lg_cmp x6 0) ≤ 0 then
    ke x4 G
  else
    gd_ (decide (¬ x6 = 0)) <|
    rec x6 (x4 - x4 / x6 * x6) G
def fc_X1_shared (x0 : Int64) (x2 : Int64) (G : AwH) : AwC :=
  lp_ (fun _ _ _ => none) (lb_X1_shared_6 
    (fun (v3 : Int64) (G4 : AwH) =>
      rL_ v3 G4)) 1000 x0 x2 G
theorem lr_X1_shared_6   (ke : Int64 → AwH → AwC) (keh : ∀ (y4 : Int64) (G : AwH), RW YX1_shared 1 31 [(4, vL_ y4)] [] G (ke y4 G)) : ∀ (n : Nat) (x4 : Int64) (x6 : Int64) (G : AwH), RW YX1_shared 1 6 [(4, vL_ x4), (6, vL_ x6)] [] G (lp_ (fun _ _ _ => none) (lb_X1_shared_6 ke) n x4 x6 G) := by
  intro n
  refine rw_lp (P := fun (f : Int64 → Int64 → AwH → AwC) => ∀ (x4 : Int64) (x6 : Int64) (G : AwH), RW YX1_shared 1 6 [(4, vL_ x4), (6, vL_ x6)] [] G (f x4 x6 G)) (fun _ _ _ => rw_none) (fun rec rech => ?_) n
  intro x4 x6 G
  unfold lb_X1_shared_6
  refine rw_lload dX1_shared_6 1 rfl ?_
  refine rw_lconst dX1_shared_8 lc_0 ?_
  refine rw_lcmp dX1_shared_9 ?_
  refine rw_if_le (tgt := 31) dX1_shared_10 (by decide) (fun c1 => ?_) (fun c1 => ?_)
  · refine rw_pick [0] rfl ?_
    exact keh x4 G
  · refine rw_lload dX1_shared_13 0 rfl ?_
    refine rw_lload dX1_shared_15 1 rfl ?_
    refine rw_gd (fun h2 => ?_)
    refine rw_lrem dX1_shared_17 (of_decide_eq_true h2) ?_
    refine rw_lstore (ls' := [(8, vL_ (x4 - x4 / x6 * x6)), (4, vL_ x4), (6, vL_ x6)]) dX1_shared_18 (Nat.le_of_ble_eq_true rfl) rfl ?_
    refine rw_lload dX1_shared_20 2 rfl ?_
    refine rw_lstore (ls' := [(4, vL_ x6), (8, vL_ (x4 - x4 / x6 * x6)), (6, vL_ x6)]) dX1_shared_22 (Nat.le_of_ble_eq_true rfl) rfl ?_
    refine rw_lload dX1_shared_24 1 rfl ?_
    refine rw_lstore (ls' := [(6, vL_ (x4 - x4 / x6 * x6)), (4, vL_ x6), (8, vL_ (x4 - x4 / x6 * x6))]) dX1_shared_26 (Nat.le_of_ble_eq_true rfl) rfl ?_
    refine rw_goto (tgt := 6) dX1_shared_28 (by decide) ?_
    refine rw_pick [1, 0] rfl ?_
    exact rech x6 (x4 - x4 / x6 * x6) G
theorem rm_X1_shared (x0 : Int64) (x2 : Int64) (G : AwH) : RM YX1_shared 1 [vL_ x0, vL_ x2] G (fc_X1_shared x0 x2 G) := by
  refine rm_of rfl (by decide +kernel) (Nat.le_of_ble_eq_true rfl) ?_
  show RW YX1_shared 1 0 [(0, vL_ x0), (2, vL_ x2)] [] G _
  unfold fc_X1_shared
  refine rw_lload_n dX1_shared_0 0 rfl rfl ?_
  refine rw_lstore (ls' := [(4, vL_ x0), (0, vL_ x0), (2, vL_ x2)]) dX1_shared_1 (Nat.le_of_ble_eq_true rfl) rfl ?_
  refine rw_lload_n dX1_shared_3 2 rfl rfl ?_
  refine rw_lstore (ls' := [(6, vL_ x2), (4, vL_ x0), (0, vL_ x0), (2, vL_ x2)]) dX1_shared_4 (Nat.le_of_ble_eq_true rfl) rfl ?_
  refine rw_pick [1, 0] rfl ?_
  refine lr_X1_shared_6   _ (fun v3 G4 => ?_) 1000 _ _ _
  refine rw_lload dX1_shared_31 0 rfl ?_
  exact rw_lret rfl dX1_shared_33
/-! StaveScore$Fraction.become(JJ)V -/
abbrev YX1_become : AwM := (yX1_become, cX1_become, 7, none, [])
theorem cb_X1_become : aw_cb YX1_become 2 := ⟨q336, q64, ⟨by decide +kernel, by decide +kernel, by decide +kernel⟩, by decide, rfl⟩
def fc_X1_become (a0 : Nat) (x1 : Int64) (x3 : Int64) (G : AwH) : AwC :=
  jn_ (fun (v3 : Int64) (G4 : AwH) =>
    bL_ (fc_X1_shared x3 v3 G4) fun r5 G6 =>
    gd_ (decide (¬ r5 = 0)) <|
    nm_ (sL_ G6 a0 0 (x1 / r5)) fun G8 =>
    gd_ (decide (¬ r5 = 0)) <|
    nm_ (sL_ G8 a0 1 (x3 / r5)) fun G10 =>
    rV_ G10) fun (j1 : Int64 → AwH → AwC) =>
  if 0 ≤ (lg_cmp x1 0) then
    j1 x1 G
  else
    j1 (-x1) G
theorem rm_X1_become (a0 : Nat) (x1 : Int64) (x3 : Int64) (G : AwH) (h0 : tk_ [1] a0 = true) : RM YX1_become 2 [vA_ (some a0), vL_ x1, vL_ x3] G (fc_X1_become a0 x1 x3 G) := by
  refine rm_of rfl (by decide +kernel) (Nat.le_of_ble_eq_true rfl) ?_
  show RW YX1_become 2 0 [(0, vA_ (some a0)), (1, vL_ x1), (3, vL_ x3)] [] G _
  unfold fc_X1_become
  refine rw_lload_n dX1_become_0 2 rfl rfl ?_
  refine rw_lload_n dX1_become_1 1 rfl rfl ?_
  refine rw_lconst dX1_become_2 lc_0 ?_
  refine rw_lcmp dX1_become_3 ?_
  refine rw_jn (P := fun (j1 : Int64 → AwH → AwC) => ∀ (v3 : Int64) (G4 : AwH), RW YX1_become 2 13 [(0, vA_ (some a0)), (1, vL_ x1), (3, vL_ x3)] [vL_ v3, vL_ x3] G4 (j1 v3 G4)) ?_ (fun j1 j1h => ?_)
  · intro v3 G4
    refine rw_callS (kc := kbL_ _) (Y' := YX1_shared) (as := [vL_ x3, vL_ v3]) (st := []) cb_X1_shared q338 q337 dX1_become_13 (by decide) rfl rfl (Nat.le_of_ble_eq_true rfl) (rm_X1_shared x3 v3 G4) rfl (kL_ (fun r5 G6 => ?_)) (kX_ (fun _ _ => rfl) (fun z hz => by cases hz))
    refine rw_lstore (ls' := [(5, vL_ r5), (0, vA_ (some a0)), (1, vL_ x1), (3, vL_ x3)]) dX1_become_16 (Nat.le_of_ble_eq_true rfl) rfl ?_
    refine rw_aload_n dX1_become_18 1 rfl rfl ?_
    refine rw_lload_n dX1_become_19 2 rfl rfl ?_
    refine rw_lload dX1_become_20 0 rfl ?_
    refine rw_gd (fun h7 => ?_)
    refine rw_ldiv dX1_become_22 (of_decide_eq_true h7) ?_
    refine rw_putL fk1_0 fk1_0_t (fin_var fk1_0_v) q123 dX1_become_23 rfl h0 (rw_nm fun G8 => ?_)
    refine rw_aload_n dX1_become_26 1 rfl rfl ?_
    refine rw_lload_n dX1_become_27 3 rfl rfl ?_
    refine rw_lload dX1_become_28 0 rfl ?_
    refine rw_gd (fun h9 => ?_)
    refine rw_ldiv dX1_become_30 (of_decide_eq_true h9) ?_
    refine rw_putL fk1_1 fk1_1_t (fin_var fk1_1_v) q124 dX1_become_31 rfl h0 (rw_nm fun G10 => ?_)
    exact rw_vret rfl dX1_become_34
  · refine rw_if_ge (tgt := 12) dX1_become_4 (by decide) (fun c2 => ?_) (fun c2 => ?_)
    · refine rw_lload_n dX1_become_12 1 rfl rfl ?_
      refine rw_pick [0, 1, 2] rfl ?_
      exact j1h x1 G
    · refine rw_lload_n dX1_become_7 1 rfl rfl ?_
      refine rw_lneg dX1_become_8 ?_
      refine rw_goto (tgt := 13) dX1_become_9 (by decide) ?_
      refine rw_pick [0, 1, 2] rfl ?_
      exact j1h (-x1) G
/-! StaveScore$Fraction.add(LStaveScore$Fraction;)V -/
abbrev YX1_add : AwM := (yX1_add, cX1_add, 2, none, [])
theorem cb_X1_add : aw_cb YX1_add 1 := ⟨q343, q64, ⟨by decide +kernel, by decide +kernel, by decide +kernel⟩, by decide, rfl⟩
def fc_X1_add (a0 : Nat) (x1 : Option Nat) (G : AwH) : AwC :=
  on_ x1 none fun a1 =>
  gd_ (tk_ [1] a1) <|
  bV_ (fc_X1_become a0 (((gL_ G a0 0) * (gL_ G a1 1)) + ((gL_ G a1 0) * (gL_ G a0 1))) ((gL_ G a0 1) * (gL_ G a1 1)) G) fun G5 =>
  rV_ G5
theorem rm_X1_add (a0 : Nat) (x1 : Option Nat) (G : AwH) (h0 : tk_ [1] a0 = true) : RM YX1_add 3 [vA_ (some a0), vA_ x1] G (fc_X1_add a0 x1 G) := by
  refine rm_of rfl (by decide +kernel) (Nat.le_of_ble_eq_true rfl) ?_
  show RW YX1_add 3 0 [(0, vA_ (some a0)), (1, vA_ x1)] [] G _
  unfold fc_X1_add
  refine rw_aload_n dX1_add_0 0 rfl rfl ?_
  refine rw_aload_n dX1_add_1 0 rfl rfl ?_
  refine rw_getL fk1_0 q123 dX1_add_2 rfl h0 ?_
  refine rw_aload_n dX1_add_5 1 rfl rfl ?_
  refine rw_onL (lsf := fun z9 => [(0, vA_ (some a0)), (1, vA_ z9)]) (stf := fun z9 => [vA_ z9, vL_ (gL_ G a0 0), vA_ (some a0)]) (fun _ => rw_none) (fun a1 h2 => ?_)
  refine rw_gd (fun h3 => ?_)
  refine rw_getL fk1_1 q124 dX1_add_6 rfl h3 ?_
  refine rw_lmul dX1_add_9 ?_
  refine rw_aload_n dX1_add_10 1 rfl rfl ?_
  refine rw_getL fk1_0 q123 dX1_add_11 rfl h3 ?_
  refine rw_aload_n dX1_add_14 0 rfl rfl ?_
  refine rw_getL fk1_1 q124 dX1_add_15 rfl h0 ?_
  refine rw_lmul dX1_add_18 ?_
  refine rw_ladd dX1_add_19 ?_
  refine rw_aload_n dX1_add_20 0 rfl rfl ?_
  refine rw_getL fk1_1 q124 dX1_add_21 rfl h0 ?_
  refine rw_aload_n dX1_add_24 1 rfl rfl ?_
  refine rw_getL fk1_1 q124 dX1_add_25 rfl h3 ?_
  refine rw_lmul dX1_add_28 ?_
  refine rw_callV (kc := kbV_ _) (Y' := YX1_become) (as := [vL_ (((gL_ G a0 0) * (gL_ G a1 1)) + ((gL_ G a1 0) * (gL_ G a0 1))), vL_ ((gL_ G a0 1) * (gL_ G a1 1))]) (st := []) (t := 1) cb_X1_become rfl q335 q334 q344 dX1_add_29 rfl (tk1 h0) (by decide) (by decide) rfl rfl (Nat.le_of_ble_eq_true rfl) (rm_X1_become a0 (((gL_ G a0 0) * (gL_ G a1 1)) + ((gL_ G a1 0) * (gL_ G a0 1))) ((gL_ G a0 1) * (gL_ G a1 1)) G h0) rfl (kV_ (fun G5 => ?_)) (kX_ (fun _ _ => rfl) (fun z hz => by cases hz))
  exact rw_vret rfl dX1_add_32
/-! StaveScore$Fraction.take(LStaveScore$Fraction;)V -/
abbrev YX1_take : AwM := (yX1_take, cX1_take, 2, none, [])
theorem cb_X1_take : aw_cb YX1_take 1 := ⟨q766, q64, ⟨by decide +kernel, by decide +kernel, by decide +kernel⟩, by decide, rfl⟩
def fc_X1_take (a0 : Nat) (x1 : Option Nat) (G : AwH) : AwC :=
  on_ x1 none fun a1 =>
  gd_ (tk_ [1] a1) <|
  nm_ (sL_ G a0 0 (gL_ G a1 0)) fun G4 =>
  nm_ (sL_ G4 a0 1 (gL_ G4 a1 1)) fun G5 =>
  rV_ G5
theorem rm_X1_take (a0 : Nat) (x1 : Option Nat) (G : AwH) (h0 : tk_ [1] a0 = true) : RM YX1_take 1 [vA_ (some a0), vA_ x1] G (fc_X1_take a0 x1 G) := by
  refine rm_of rfl (by decide +kernel) (Nat.le_of_ble_eq_true rfl) ?_
  show RW YX1_take 1 0 [(0, vA_ (some a0)), (1, vA_ x1)] [] G _
  unfold fc_X1_take
  refine rw_aload_n dX1_take_0 0 rfl rfl ?_
  refine rw_aload_n dX1_take_1 1 rfl rfl ?_
  refine rw_onL (lsf := fun z9 => [(0, vA_ (some a0)), (1, vA_ z9)]) (stf := fun z9 => [vA_ z9, vA_ (some a0)]) (fun _ => rw_none) (fun a1 h2 => ?_)
  refine rw_gd (fun h3 => ?_)
  refine rw_getL fk1_0 q123 dX1_take_2 rfl h3 ?_
  refine rw_putL fk1_0 fk1_0_t (fin_var fk1_0_v) q123 dX1_take_5 rfl h0 (rw_nm fun G4 => ?_)
  refine rw_aload_n dX1_take_8 0 rfl rfl ?_
  refine rw_aload_n dX1_take_9 1 rfl rfl ?_
  refine rw_getL fk1_1 q124 dX1_take_10 rfl h3 ?_
  refine rw_putL fk1_1 fk1_1_t (fin_var fk1_1_v) q124 dX1_take_13 rfl h0 (rw_nm fun G5 => ?_)
  exact rw_vret rfl dX1_take_16
/-! StaveScore$Fraction.multiply(JJ)V -/
abbrev YX1_multiply : AwM := (yX1_multiply, cX1_multiply, 5, none, [])
theorem cb_X1_multiply : aw_cb YX1_multiply 2 := ⟨q786, q64, ⟨by decide +kernel, by decide +kernel, by decide +kernel⟩, by decide, rfl⟩
def fc_X1_multiply (a0 : Nat) (x1 : Int64) (x3 : Int64) (G : AwH) : AwC :=
  bV_ (fc_X1_become a0 ((gL_ G a0 0) * x1) ((gL_ G a0 1) * x3) G) fun G2 =>
  rV_ G2
theorem rm_X1_multiply (a0 : Nat) (x1 : Int64) (x3 : Int64) (G : AwH) (h0 : tk_ [1] a0 = true) : RM YX1_multiply 3 [vA_ (some a0), vL_ x1, vL_ x3] G (fc_X1_multiply a0 x1 x3 G) := by
  refine rm_of rfl (by decide +kernel) (Nat.le_of_ble_eq_true rfl) ?_
  show RW YX1_multiply 3 0 [(0, vA_ (some a0)), (1, vL_ x1), (3, vL_ x3)] [] G _
  unfold fc_X1_multiply
  refine rw_aload_n dX1_multiply_0 0 rfl rfl ?_
  refine rw_aload_n dX1_multiply_1 0 rfl rfl ?_
  refine rw_getL fk1_0 q123 dX1_multiply_2 rfl h0 ?_
  refine rw_lload_n dX1_multiply_5 1 rfl rfl ?_
  refine rw_lmul dX1_multiply_6 ?_
  refine rw_aload_n dX1_multiply_7 0 rfl rfl ?_
  refine rw_getL fk1_1 q124 dX1_multiply_8 rfl h0 ?_
  refine rw_lload_n dX1_multiply_11 2 rfl rfl ?_
  refine rw_lmul dX1_multiply_12 ?_
  refine rw_callV (kc := kbV_ _) (Y' := YX1_become) (as := [vL_ ((gL_ G a0 0) * x1), vL_ ((gL_ G a0 1) * x3)]) (st := []) (t := 1) cb_X1_become rfl q335 q334 q344 dX1_multiply_13 rfl (tk1 h0) (by decide) (by decide) rfl rfl (Nat.le_of_ble_eq_true rfl) (rm_X1_become a0 ((gL_ G a0 0) * x1) ((gL_ G a0 1) * x3) G h0) rfl (kV_ (fun G2 => ?_)) (kX_ (fun _ _ => rfl) (fun z hz => by cases hz))
  exact rw_vret rfl dX1_multiply_16
/-! java/lang/Long.compare(JJ)I -/
abbrev YJ7_compare : AwM := (yJ7_compare, cJ7_compare, 4, some Jvm.ClassFile.FieldType.int, [])
theorem cb_J7_compare : aw_cb YJ7_compare 2 := ⟨q813, q88, ⟨by decide +kernel, by decide +kernel, by decide +kernel⟩, by decide, rfl⟩
def fc_J7_compare (x0 : Int64) (x2 : Int64) (G : AwH) : AwC :=
  if 0 ≤ (lg_cmp x0 x2) then
    if (lg_cmp x0 x2) = 0 then
      rI_ 0 G
    else
      rI_ 1 G
  else
    rI_ (-1) G
theorem rm_J7_compare (x0 : Int64) (x2 : Int64) (G : AwH) : RM YJ7_compare 1 [vL_ x0, vL_ x2] G (fc_J7_compare x0 x2 G) := by
  refine rm_of rfl (by decide +kernel) (Nat.le_of_ble_eq_true rfl) ?_
  show RW YJ7_compare 1 0 [(0, vL_ x0), (2, vL_ x2)] [] G _
  unfold fc_J7_compare
  refine rw_lload_n dJ7_compare_0 0 rfl rfl ?_
  refine rw_lload_n dJ7_compare_1 1 rfl rfl ?_
  refine rw_lcmp dJ7_compare_2 ?_
  refine rw_if_ge (tgt := 10) dJ7_compare_3 (by decide) (fun c1 => ?_) (fun c1 => ?_)
  · refine rw_lload_n dJ7_compare_10 0 rfl rfl ?_
    refine rw_lload_n dJ7_compare_11 1 rfl rfl ?_
    refine rw_lcmp dJ7_compare_12 ?_
    refine rw_if_ne (tgt := 20) dJ7_compare_13 (by decide) (fun c2 => ?_) (fun c2 => ?_)
    · refine rw_iconst dJ7_compare_16 ic_0 ?_
      refine rw_goto (tgt := 21) dJ7_compare_17 (by decide) ?_
      exact rw_iret rfl dJ7_compare_21
    · refine rw_iconst dJ7_compare_20 ic_1 ?_
      exact rw_iret rfl dJ7_compare_21
  · refine rw_iconst dJ7_compare_6 ic_m1 ?_
    refine rw_goto (tgt := 21) dJ7_compare_7 (by decide) ?_
    exact rw_iret rfl dJ7_compare_21
/-! StaveScore$Fraction.compare(LStaveScore$Fraction;)I -/
abbrev YX1_compare : AwM := (yX1_compare, cX1_compare, 2, some Jvm.ClassFile.FieldType.int, [])
theorem cb_X1_compare : aw_cb YX1_compare 1 := ⟨q810, q64, ⟨by decide +kernel, by decide +kernel, by decide +kernel⟩, by decide, rfl⟩
def fc_X1_compare (a0 : Nat) (x1 : Option Nat) (G : AwH) : AwC :=
  on_ x1 none fun a1 =>
  gd_ (tk_ [1] a1) <|
  bI_ (fc_J7_compare ((gL_ G a0 0) * (gL_ G a1 1)) ((gL_ G a1 0) * (gL_ G a0 1)) G) fun r4 G5 =>
  rI_ r4 G5
theorem rm_X1_compare (a0 : Nat) (x1 : Option Nat) (G : AwH) (h0 : tk_ [1] a0 = true) : RM YX1_compare 2 [vA_ (some a0), vA_ x1] G (fc_X1_compare a0 x1 G) := by
  refine rm_of rfl (by decide +kernel) (Nat.le_of_ble_eq_true rfl) ?_
  show RW YX1_compare 2 0 [(0, vA_ (some a0)), (1, vA_ x1)] [] G _
  unfold fc_X1_compare
  refine rw_aload_n dX1_compare_0 0 rfl rfl ?_
  refine rw_getL fk1_0 q123 dX1_compare_1 rfl h0 ?_
  refine rw_aload_n dX1_compare_4 1 rfl rfl ?_
  refine rw_onL (lsf := fun z9 => [(0, vA_ (some a0)), (1, vA_ z9)]) (stf := fun z9 => [vA_ z9, vL_ (gL_ G a0 0)]) (fun _ => rw_none) (fun a1 h2 => ?_)
  refine rw_gd (fun h3 => ?_)
  refine rw_getL fk1_1 q124 dX1_compare_5 rfl h3 ?_
  refine rw_lmul dX1_compare_8 ?_
  refine rw_aload_n dX1_compare_9 1 rfl rfl ?_
  refine rw_getL fk1_0 q123 dX1_compare_10 rfl h3 ?_
  refine rw_aload_n dX1_compare_13 0 rfl rfl ?_
  refine rw_getL fk1_1 q124 dX1_compare_14 rfl h0 ?_
  refine rw_lmul dX1_compare_17 ?_
  refine rw_callS (kc := kbI_ _) (Y' := YJ7_compare) (as := [vL_ ((gL_ G a0 0) * (gL_ G a1 1)), vL_ ((gL_ G a1 0) * (gL_ G a0 1))]) (st := []) cb_J7_compare q812 q811 dX1_compare_18 (by decide) rfl rfl (Nat.le_of_ble_eq_true rfl) (rm_J7_compare ((gL_ G a0 0) * (gL_ G a1 1)) ((gL_ G a1 0) * (gL_ G a0 1)) G) rfl (kI_ (fun r4 G5 => ?_)) (kX_ (fun _ _ => rfl) (fun z hz => by cases hz))
  exact rw_iret rfl dX1_compare_21
/-! StaveScore$Fraction.told(I)J -/
abbrev YX1_told : AwM := (yX1_told, cX1_told, 2, some Jvm.ClassFile.FieldType.long, [])
theorem cb_X1_told : aw_cb YX1_told 1 := ⟨q821, q64, ⟨by decide +kernel, by decide +kernel, by decide +kernel⟩, by decide, rfl⟩
def fc_X1_told (a0 : Nat) (x1 : Int32) (G : AwH) : AwC :=
  if x1 = 0 then
    rL_ (gL_ G a0 0) G
  else
    rL_ (gL_ G a0 1) G
theorem rm_X1_told (a0 : Nat) (x1 : Int32) (G : AwH) (h0 : tk_ [1] a0 = true) : RM YX1_told 1 [vA_ (some a0), vI_ x1] G (fc_X1_told a0 x1 G) := by
  refine rm_of rfl (by decide +kernel) (Nat.le_of_ble_eq_true rfl) ?_
  show RW YX1_told 1 0 [(0, vA_ (some a0)), (1, vI_ x1)] [] G _
  unfold fc_X1_told
  refine rw_iload_n dX1_told_0 1 rfl rfl ?_
  refine rw_if_ne (tgt := 11) dX1_told_1 (by decide) (fun c1 => ?_) (fun c1 => ?_)
  · refine rw_aload_n dX1_told_4 0 rfl rfl ?_
    refine rw_getL fk1_0 q123 dX1_told_5 rfl h0 ?_
    refine rw_goto (tgt := 15) dX1_told_8 (by decide) ?_
    exact rw_lret rfl dX1_told_15
  · refine rw_aload_n dX1_told_11 0 rfl rfl ?_
    refine rw_getL fk1_1 q124 dX1_told_12 rfl h0 ?_
    exact rw_lret rfl dX1_told_15
/-! StaveScore$Fraction.lessen(LStaveScore$Fraction;)V -/
abbrev YX1_lessen : AwM := (yX1_lessen, cX1_lessen, 2, none, [])
theorem cb_X1_lessen : aw_cb YX1_lessen 1 := ⟨q825, q64, ⟨by decide +kernel, by decide +kernel, by decide +kernel⟩, by decide, rfl⟩
def fc_X1_lessen (a0 : Nat) (x1 : Option Nat) (G : AwH) : AwC :=
  on_ x1 none fun a1 =>
  gd_ (tk_ [1] a1) <|
  bV_ (fc_X1_become a0 (((gL_ G a0 0) * (gL_ G a1 1)) - ((gL_ G a1 0) * (gL_ G a0 1))) ((gL_ G a0 1) * (gL_ G a1 1)) G) fun G5 =>
  rV_ G5
theorem rm_X1_lessen (a0 : Nat) (x1 : Option Nat) (G : AwH) (h0 : tk_ [1] a0 = true) : RM YX1_lessen 3 [vA_ (some a0), vA_ x1] G (fc_X1_lessen a0 x1 G) := by
  refine rm_of rfl (by decide +kernel) (Nat.le_of_ble_eq_true rfl) ?_
  show RW YX1_lessen 3 0 [(0, vA_ (some a0)), (1, vA_ x1)] [] G _
  unfold fc_X1_lessen
  refine rw_aload_n dX1_lessen_0 0 rfl rfl ?_
  refine rw_aload_n dX1_lessen_1 0 rfl rfl ?_
  refine rw_getL fk1_0 q123 dX1_lessen_2 rfl h0 ?_
  refine rw_aload_n dX1_lessen_5 1 rfl rfl ?_
  refine rw_onL (lsf := fun z9 => [(0, vA_ (some a0)), (1, vA_ z9)]) (stf := fun z9 => [vA_ z9, vL_ (gL_ G a0 0), vA_ (some a0)]) (fun _ => rw_none) (fun a1 h2 => ?_)
  refine rw_gd (fun h3 => ?_)
  refine rw_getL fk1_1 q124 dX1_lessen_6 rfl h3 ?_
  refine rw_lmul dX1_lessen_9 ?_
  refine rw_aload_n dX1_lessen_10 1 rfl rfl ?_
  refine rw_getL fk1_0 q123 dX1_lessen_11 rfl h3 ?_
  refine rw_aload_n dX1_lessen_14 0 rfl rfl ?_
  refine rw_getL fk1_1 q124 dX1_lessen_15 rfl h0 ?_
  refine rw_lmul dX1_lessen_18 ?_
  refine rw_lsub dX1_lessen_19 ?_
  refine rw_aload_n dX1_lessen_20 0 rfl rfl ?_
  refine rw_getL fk1_1 q124 dX1_lessen_21 rfl h0 ?_
  refine rw_aload_n dX1_lessen_24 1 rfl rfl ?_
  refine rw_getL fk1_1 q124 dX1_lessen_25 rfl h3 ?_
  refine rw_lmul dX1_lessen_28 ?_
  refine rw_callV (kc := kbV_ _) (Y' := YX1_become) (as := [vL_ (((gL_ G a0 0) * (gL_ G a1 1)) - ((gL_ G a1 0) * (gL_ G a0 1))), vL_ ((gL_ G a0 1) * (gL_ G a1 1))]) (st := []) (t := 1) cb_X1_become rfl q335 q334 q344 dX1_lessen_29 rfl (tk1 h0) (by decide) (by decide) rfl rfl (Nat.le_of_ble_eq_true rfl) (rm_X1_become a0 (((gL_ G a0 0) * (gL_ G a1 1)) - ((gL_ G a1 0) * (gL_ G a0 1))) ((gL_ G a0 1) * (gL_ G a1 1)) G h0) rfl (kV_ (fun G5 => ?_)) (kX_ (fun _ _ => rfl) (fun z hz => by cases hz))
  exact rw_vret rfl dX1_lessen_32
/-! StaveScore$Tuplet.has(II)Z -/
abbrev YX17_has : AwM := (yX17_has, cX17_has, 3, some Jvm.ClassFile.FieldType.boolean, [])
theorem cb_X17_has : aw_cb YX17_has 2 := ⟨q758, q89, ⟨by decide +kernel, by decide +kernel, by decide +kernel⟩, by decide, rfl⟩
def fc_X17_has (a0 : Nat) (x1 : Int32) (x2 : Int32) (G : AwH) : AwC :=
  if x1 = (gI_ G a0 1) then
    if x2 < (gI_ G a0 2) then
      rI_ 0 G
    else
      if (gI_ G a0 3) < x2 then
        rI_ 0 G
      else
        rI_ 1 G
  else
    rI_ 0 G
theorem rm_X17_has (a0 : Nat) (x1 : Int32) (x2 : Int32) (G : AwH) (h0 : tk_ [17] a0 = true) : RM YX17_has 1 [vA_ (some a0), vI_ x1, vI_ x2] G (fc_X17_has a0 x1 x2 G) := by
  refine rm_of rfl (by decide +kernel) (Nat.le_of_ble_eq_true rfl) ?_
  show RW YX17_has 1 0 [(0, vA_ (some a0)), (1, vI_ x1), (2, vI_ x2)] [] G _
  unfold fc_X17_has
  refine rw_iload_n dX17_has_0 1 rfl rfl ?_
  refine rw_aload_n dX17_has_1 0 rfl rfl ?_
  refine rw_getI fk17_1 q900 dX17_has_2 rfl h0 ?_
  refine rw_icmp_ne (tgt := 28) dX17_has_5 (by decide) (fun c1 => ?_) (fun c1 => ?_)
  · refine rw_iload_n dX17_has_8 2 rfl rfl ?_
    refine rw_aload_n dX17_has_9 0 rfl rfl ?_
    refine rw_getI fk17_2 q902 dX17_has_10 rfl h0 ?_
    refine rw_icmp_lt (tgt := 28) dX17_has_13 (by decide) (fun c2 => ?_) (fun c2 => ?_)
    · refine rw_iconst dX17_has_28 ic_0 ?_
      exact rw_zret (Or.inl rfl) rfl dX17_has_29
    · refine rw_iload_n dX17_has_16 2 rfl rfl ?_
      refine rw_aload_n dX17_has_17 0 rfl rfl ?_
      refine rw_getI fk17_3 q904 dX17_has_18 rfl h0 ?_
      refine rw_icmp_gt (tgt := 28) dX17_has_21 (by decide) (fun c3 => ?_) (fun c3 => ?_)
      · refine rw_iconst dX17_has_28 ic_0 ?_
        exact rw_zret (Or.inl rfl) rfl dX17_has_29
      · refine rw_iconst dX17_has_24 ic_1 ?_
        refine rw_goto (tgt := 29) dX17_has_25 (by decide) ?_
        exact rw_zret (Or.inr rfl) rfl dX17_has_29
  · refine rw_iconst dX17_has_28 ic_0 ?_
    exact rw_zret (Or.inl rfl) rfl dX17_has_29
/-! StaveScore$Tuplet.spans(LStaveScore$Tuplet;)Z -/
abbrev YX17_spans : AwM := (yX17_spans, cX17_spans, 2, some Jvm.ClassFile.FieldType.boolean, [])
theorem cb_X17_spans : aw_cb YX17_spans 1 := ⟨q801, q89, ⟨by decide +kernel, by decide +kernel, by decide +kernel⟩, by decide, rfl⟩
def fc_X17_spans (a0 : Nat) (x1 : Option Nat) (G : AwH) : AwC :=
  on_ x1 none fun a1 =>
  gd_ (tk_ [17] a1) <|
  if (gI_ G a0 1) = (gI_ G a1 1) then
    if (gI_ G a1 2) < (gI_ G a0 2) then
      rI_ 0 G
    else
      if (gI_ G a0 3) < (gI_ G a1 3) then
        rI_ 0 G
      else
        rI_ 1 G
  else
    rI_ 0 G
theorem rm_X17_spans (a0 : Nat) (x1 : Option Nat) (G : AwH) (h0 : tk_ [17] a0 = true) : RM YX17_spans 1 [vA_ (some a0), vA_ x1] G (fc_X17_spans a0 x1 G) := by
  refine rm_of rfl (by decide +kernel) (Nat.le_of_ble_eq_true rfl) ?_
  show RW YX17_spans 1 0 [(0, vA_ (some a0)), (1, vA_ x1)] [] G _
  unfold fc_X17_spans
  refine rw_aload_n dX17_spans_0 0 rfl rfl ?_
  refine rw_getI fk17_1 q900 dX17_spans_1 rfl h0 ?_
  refine rw_aload_n dX17_spans_4 1 rfl rfl ?_
  refine rw_onL (lsf := fun z9 => [(0, vA_ (some a0)), (1, vA_ z9)]) (stf := fun z9 => [vA_ z9, vI_ (gI_ G a0 1)]) (fun _ => rw_none) (fun a1 h2 => ?_)
  refine rw_gd (fun h3 => ?_)
  refine rw_getI fk17_1 q900 dX17_spans_5 rfl h3 ?_
  refine rw_icmp_ne (tgt := 37) dX17_spans_8 (by decide) (fun c4 => ?_) (fun c4 => ?_)
  · refine rw_aload_n dX17_spans_11 0 rfl rfl ?_
    refine rw_getI fk17_2 q902 dX17_spans_12 rfl h0 ?_
    refine rw_aload_n dX17_spans_15 1 rfl rfl ?_
    refine rw_getI fk17_2 q902 dX17_spans_16 rfl h3 ?_
    refine rw_icmp_gt (tgt := 37) dX17_spans_19 (by decide) (fun c5 => ?_) (fun c5 => ?_)
    · refine rw_iconst dX17_spans_37 ic_0 ?_
      exact rw_zret (Or.inl rfl) rfl dX17_spans_38
    · refine rw_aload_n dX17_spans_22 1 rfl rfl ?_
      refine rw_getI fk17_3 q904 dX17_spans_23 rfl h3 ?_
      refine rw_aload_n dX17_spans_26 0 rfl rfl ?_
      refine rw_getI fk17_3 q904 dX17_spans_27 rfl h0 ?_
      refine rw_icmp_gt (tgt := 37) dX17_spans_30 (by decide) (fun c6 => ?_) (fun c6 => ?_)
      · refine rw_iconst dX17_spans_37 ic_0 ?_
        exact rw_zret (Or.inl rfl) rfl dX17_spans_38
      · refine rw_iconst dX17_spans_33 ic_1 ?_
        refine rw_goto (tgt := 38) dX17_spans_34 (by decide) ?_
        exact rw_zret (Or.inr rfl) rfl dX17_spans_38
  · refine rw_iconst dX17_spans_37 ic_0 ?_
    exact rw_zret (Or.inl rfl) rfl dX17_spans_38
/-! StaveScore$Tuplet.isIn(LStaveScore$Tuplet;)Z -/
abbrev YX17_isIn : AwM := (yX17_isIn, cX17_isIn, 2, some Jvm.ClassFile.FieldType.boolean, [])
theorem cb_X17_isIn : aw_cb YX17_isIn 1 := ⟨q797, q89, ⟨by decide +kernel, by decide +kernel, by decide +kernel⟩, by decide, rfl⟩
def fc_X17_isIn (a0 : Nat) (x1 : Option Nat) (G : AwH) : AwC :=
  if x1 = (some a0) then
    rI_ 0 G
  else
    on_ x1 none fun a2 =>
    gd_ (tk_ [17] a2) <|
    bI_ (fc_X17_spans a2 (some a0) G) fun r5 G6 =>
    if r5 = 0 then
      rI_ 0 G6
    else
      bI_ (fc_X17_spans a0 (some a2) G6) fun r8 G9 =>
      if r8 = 0 then
        rI_ 1 G9
      else
        if (gI_ G9 a0 0) ≤ (gI_ G9 a2 0) then
          rI_ 0 G9
        else
          rI_ 1 G9
theorem rm_X17_isIn (a0 : Nat) (x1 : Option Nat) (G : AwH) (h0 : tk_ [17] a0 = true) : RM YX17_isIn 2 [vA_ (some a0), vA_ x1] G (fc_X17_isIn a0 x1 G) := by
  refine rm_of rfl (by decide +kernel) (Nat.le_of_ble_eq_true rfl) ?_
  show RW YX17_isIn 2 0 [(0, vA_ (some a0)), (1, vA_ x1)] [] G _
  unfold fc_X17_isIn
  refine rw_aload_n dX17_isIn_0 1 rfl rfl ?_
  refine rw_aload_n dX17_isIn_1 0 rfl rfl ?_
  refine rw_acmp_eq (tgt := 36) dX17_isIn_2 (by decide) (fun c1 => ?_) (fun c1 => ?_)
  · refine rw_iconst dX17_isIn_36 ic_0 ?_
    exact rw_zret (Or.inl rfl) rfl dX17_isIn_37
  · refine rw_aload_n dX17_isIn_5 1 rfl rfl ?_
    refine rw_aload_n dX17_isIn_6 0 rfl rfl ?_
    refine rw_onL (lsf := fun z9 => [(0, vA_ (some a0)), (1, vA_ z9)]) (stf := fun z9 => [vA_ (some a0), vA_ z9]) (fun _ => rw_none) (fun a2 h3 => ?_)
    refine rw_gd (fun h4 => ?_)
    refine rw_callV (kc := kbI_ _) (Y' := YX17_spans) (as := [vA_ (some a0)]) (st := []) (t := 17) cb_X17_spans rfl q800 q799 q798 dX17_isIn_7 rfl (tk1 h4) (by decide) (by decide) rfl rfl (Nat.le_of_ble_eq_true rfl) (rm_X17_spans a2 (some a0) G h4) rfl (kI_ (fun r5 G6 => ?_)) (kX_ (fun _ _ => rfl) (fun z hz => by cases hz))
    refine rw_if_eq (tgt := 36) dX17_isIn_10 (by decide) (fun c7 => ?_) (fun c7 => ?_)
    · refine rw_iconst dX17_isIn_36 ic_0 ?_
      exact rw_zret (Or.inl rfl) rfl dX17_isIn_37
    · refine rw_aload_n dX17_isIn_13 0 rfl rfl ?_
      refine rw_aload_n dX17_isIn_14 1 rfl rfl ?_
      refine rw_callV (kc := kbI_ _) (Y' := YX17_spans) (as := [vA_ (some a2)]) (st := []) (t := 17) cb_X17_spans rfl q800 q799 q798 dX17_isIn_15 rfl (tk1 h0) (by decide) (by decide) rfl rfl (Nat.le_of_ble_eq_true rfl) (rm_X17_spans a0 (some a2) G6 h0) rfl (kI_ (fun r8 G9 => ?_)) (kX_ (fun _ _ => rfl) (fun z hz => by cases hz))
      refine rw_if_eq (tgt := 32) dX17_isIn_18 (by decide) (fun c10 => ?_) (fun c10 => ?_)
      · refine rw_iconst dX17_isIn_32 ic_1 ?_
        refine rw_goto (tgt := 37) dX17_isIn_33 (by decide) ?_
        exact rw_zret (Or.inr rfl) rfl dX17_isIn_37
      · refine rw_aload_n dX17_isIn_21 0 rfl rfl ?_
        refine rw_getI fk17_0 q899 dX17_isIn_22 rfl h0 ?_
        refine rw_aload_n dX17_isIn_25 1 rfl rfl ?_
        refine rw_getI fk17_0 q899 dX17_isIn_26 rfl h4 ?_
        refine rw_icmp_le (tgt := 36) dX17_isIn_29 (by decide) (fun c11 => ?_) (fun c11 => ?_)
        · refine rw_iconst dX17_isIn_36 ic_0 ?_
          exact rw_zret (Or.inl rfl) rfl dX17_isIn_37
        · refine rw_iconst dX17_isIn_32 ic_1 ?_
          refine rw_goto (tgt := 37) dX17_isIn_33 (by decide) ?_
          exact rw_zret (Or.inr rfl) rfl dX17_isIn_37
/-! StaveScore$Tuplet.<init>(IIIIIII)V -/
abbrev YX17_init : AwM := (yX17_init, cX17_init, 8, none, [])
theorem cb_X17_init : aw_cb YX17_init 7 := ⟨q897, q89, ⟨by decide +kernel, by decide +kernel, by decide +kernel⟩, by decide, rfl⟩
def fc_X17_init (a0 : Nat) (x1 : Int32) (x2 : Int32) (x3 : Int32) (x4 : Int32) (x5 : Int32) (x6 : Int32) (x7 : Int32) (G : AwH) : AwC :=
  nm_ (sI_ G a0 0 x1) fun G1 =>
  nm_ (sI_ G1 a0 1 x2) fun G2 =>
  nm_ (sI_ G2 a0 2 x3) fun G3 =>
  nm_ (sI_ G3 a0 3 x4) fun G4 =>
  nm_ (sI_ G4 a0 4 x5) fun G5 =>
  nm_ (sI_ G5 a0 5 x6) fun G6 =>
  nm_ (sI_ G6 a0 6 x7) fun G7 =>
  rV_ G7
theorem rm_X17_init (a0 : Nat) (x1 : Int32) (x2 : Int32) (x3 : Int32) (x4 : Int32) (x5 : Int32) (x6 : Int32) (x7 : Int32) (G : AwH) (h0 : tk_ [17] a0 = true) : RM YX17_init 1 [vA_ (some a0), vI_ x1, vI_ x2, vI_ x3, vI_ x4, vI_ x5, vI_ x6, vI_ x7] G (fc_X17_init a0 x1 x2 x3 x4 x5 x6 x7 G) := by
  refine rm_of rfl (by decide +kernel) (Nat.le_of_ble_eq_true rfl) ?_
  show RW YX17_init 1 0 [(0, vA_ (some a0)), (1, vI_ x1), (2, vI_ x2), (3, vI_ x3), (4, vI_ x4), (5, vI_ x5), (6, vI_ x6), (7, vI_ x7)] [] G _
  unfold fc_X17_init
  refine rw_aload_n dX17_init_0 0 rfl rfl ?_
  refine rw_objInit q898 q100 q101 dX17_init_1 rfl (Nat.le_of_ble_eq_true rfl) ?_
  refine rw_aload_n dX17_init_4 0 rfl rfl ?_
  refine rw_iload_n dX17_init_5 1 rfl rfl ?_
  refine rw_putI fk17_0 fk17_0_t (by decide +kernel) q899 dX17_init_6 rfl h0 (rw_nm fun G1 => ?_)
  refine rw_aload_n dX17_init_9 0 rfl rfl ?_
  refine rw_iload_n dX17_init_10 2 rfl rfl ?_
  refine rw_putI fk17_1 fk17_1_t (by decide +kernel) q900 dX17_init_11 rfl h0 (rw_nm fun G2 => ?_)
  refine rw_aload_n dX17_init_14 0 rfl rfl ?_
  refine rw_iload_n dX17_init_15 3 rfl rfl ?_
  refine rw_putI fk17_2 fk17_2_t (fin_var fk17_2_v) q902 dX17_init_16 rfl h0 (rw_nm fun G3 => ?_)
  refine rw_aload_n dX17_init_19 0 rfl rfl ?_
  refine rw_iload dX17_init_20 4 rfl ?_
  refine rw_putI fk17_3 fk17_3_t (fin_var fk17_3_v) q904 dX17_init_22 rfl h0 (rw_nm fun G4 => ?_)
  refine rw_aload_n dX17_init_25 0 rfl rfl ?_
  refine rw_iload dX17_init_26 5 rfl ?_
  refine rw_putI fk17_4 fk17_4_t (by decide +kernel) q906 dX17_init_28 rfl h0 (rw_nm fun G5 => ?_)
  refine rw_aload_n dX17_init_31 0 rfl rfl ?_
  refine rw_iload dX17_init_32 6 rfl ?_
  refine rw_putI fk17_5 fk17_5_t (by decide +kernel) q908 dX17_init_34 rfl h0 (rw_nm fun G6 => ?_)
  refine rw_aload_n dX17_init_37 0 rfl rfl ?_
  refine rw_iload dX17_init_38 7 rfl ?_
  refine rw_putI fk17_6 fk17_6_t (by decide +kernel) q910 dX17_init_40 rfl h0 (rw_nm fun G7 => ?_)
  exact rw_vret rfl dX17_init_43
/-! StaveScore$Tuplet.isApart(LStaveScore$Tuplet;)Z -/
abbrev YX17_isApart : AwM := (yX17_isApart, cX17_isApart, 2, some Jvm.ClassFile.FieldType.boolean, [])
theorem cb_X17_isApart : aw_cb YX17_isApart 1 := ⟨q934, q89, ⟨by decide +kernel, by decide +kernel, by decide +kernel⟩, by decide, rfl⟩
def fc_X17_isApart (a0 : Nat) (x1 : Option Nat) (G : AwH) : AwC :=
  on_ x1 none fun a1 =>
  gd_ (tk_ [17] a1) <|
  if (gI_ G a0 1) = (gI_ G a1 1) then
    if (gI_ G a0 3) < (gI_ G a1 2) then
      rI_ 1 G
    else
      if (gI_ G a0 2) ≤ (gI_ G a1 3) then
        rI_ 0 G
      else
        rI_ 1 G
  else
    rI_ 1 G
theorem rm_X17_isApart (a0 : Nat) (x1 : Option Nat) (G : AwH) (h0 : tk_ [17] a0 = true) : RM YX17_isApart 1 [vA_ (some a0), vA_ x1] G (fc_X17_isApart a0 x1 G) := by
  refine rm_of rfl (by decide +kernel) (Nat.le_of_ble_eq_true rfl) ?_
  show RW YX17_isApart 1 0 [(0, vA_ (some a0)), (1, vA_ x1)] [] G _
  unfold fc_X17_isApart
  refine rw_aload_n dX17_isApart_0 0 rfl rfl ?_
  refine rw_getI fk17_1 q900 dX17_isApart_1 rfl h0 ?_
  refine rw_aload_n dX17_isApart_4 1 rfl rfl ?_
  refine rw_onL (lsf := fun z9 => [(0, vA_ (some a0)), (1, vA_ z9)]) (stf := fun z9 => [vA_ z9, vI_ (gI_ G a0 1)]) (fun _ => rw_none) (fun a1 h2 => ?_)
  refine rw_gd (fun h3 => ?_)
  refine rw_getI fk17_1 q900 dX17_isApart_5 rfl h3 ?_
  refine rw_icmp_ne (tgt := 33) dX17_isApart_8 (by decide) (fun c4 => ?_) (fun c4 => ?_)
  · refine rw_aload_n dX17_isApart_11 0 rfl rfl ?_
    refine rw_getI fk17_3 q904 dX17_isApart_12 rfl h0 ?_
    refine rw_aload_n dX17_isApart_15 1 rfl rfl ?_
    refine rw_getI fk17_2 q902 dX17_isApart_16 rfl h3 ?_
    refine rw_icmp_lt (tgt := 33) dX17_isApart_19 (by decide) (fun c5 => ?_) (fun c5 => ?_)
    · refine rw_iconst dX17_isApart_33 ic_1 ?_
      refine rw_goto (tgt := 38) dX17_isApart_34 (by decide) ?_
      exact rw_zret (Or.inr rfl) rfl dX17_isApart_38
    · refine rw_aload_n dX17_isApart_22 1 rfl rfl ?_
      refine rw_getI fk17_3 q904 dX17_isApart_23 rfl h3 ?_
      refine rw_aload_n dX17_isApart_26 0 rfl rfl ?_
      refine rw_getI fk17_2 q902 dX17_isApart_27 rfl h0 ?_
      refine rw_icmp_ge (tgt := 37) dX17_isApart_30 (by decide) (fun c6 => ?_) (fun c6 => ?_)
      · refine rw_iconst dX17_isApart_37 ic_0 ?_
        exact rw_zret (Or.inl rfl) rfl dX17_isApart_38
      · refine rw_iconst dX17_isApart_33 ic_1 ?_
        refine rw_goto (tgt := 38) dX17_isApart_34 (by decide) ?_
        exact rw_zret (Or.inr rfl) rfl dX17_isApart_38
  · refine rw_iconst dX17_isApart_33 ic_1 ?_
    refine rw_goto (tgt := 38) dX17_isApart_34 (by decide) ?_
    exact rw_zret (Or.inr rfl) rfl dX17_isApart_38
/-! StaveScore$Tuplet.isAlike(LStaveScore$Tuplet;)Z -/
abbrev YX17_isAlike : AwM := (yX17_isAlike, cX17_isAlike, 2, some Jvm.ClassFile.FieldType.boolean, [])
theorem cb_X17_isAlike : aw_cb YX17_isAlike 1 := ⟨q1109, q89, ⟨by decide +kernel, by decide +kernel, by decide +kernel⟩, by decide, rfl⟩
def fc_X17_isAlike (a0 : Nat) (x1 : Option Nat) (G : AwH) : AwC :=
  on_ x1 none fun a1 =>
  gd_ (tk_ [17] a1) <|
  if (gI_ G a0 4) = (gI_ G a1 4) then
    if (gI_ G a0 5) = (gI_ G a1 5) then
      if (gI_ G a0 6) = (gI_ G a1 6) then
        if (gI_ G a0 2) = (gI_ G a1 2) then
          if (gI_ G a0 3) = (gI_ G a1 3) then
            rI_ 1 G
          else
            rI_ 0 G
        else
          rI_ 0 G
      else
        rI_ 0 G
    else
      rI_ 0 G
  else
    rI_ 0 G
theorem rm_X17_isAlike (a0 : Nat) (x1 : Option Nat) (G : AwH) (h0 : tk_ [17] a0 = true) : RM YX17_isAlike 1 [vA_ (some a0), vA_ x1] G (fc_X17_isAlike a0 x1 G) := by
  refine rm_of rfl (by decide +kernel) (Nat.le_of_ble_eq_true rfl) ?_
  show RW YX17_isAlike 1 0 [(0, vA_ (some a0)), (1, vA_ x1)] [] G _
  unfold fc_X17_isAlike
  refine rw_aload_n dX17_isAlike_0 0 rfl rfl ?_
  refine rw_getI fk17_4 q906 dX17_isAlike_1 rfl h0 ?_
  refine rw_aload_n dX17_isAlike_4 1 rfl rfl ?_
  refine rw_onL (lsf := fun z9 => [(0, vA_ (some a0)), (1, vA_ z9)]) (stf := fun z9 => [vA_ z9, vI_ (gI_ G a0 4)]) (fun _ => rw_none) (fun a1 h2 => ?_)
  refine rw_gd (fun h3 => ?_)
  refine rw_getI fk17_4 q906 dX17_isAlike_5 rfl h3 ?_
  refine rw_icmp_ne (tgt := 59) dX17_isAlike_8 (by decide) (fun c4 => ?_) (fun c4 => ?_)
  · refine rw_aload_n dX17_isAlike_11 0 rfl rfl ?_
    refine rw_getI fk17_5 q908 dX17_isAlike_12 rfl h0 ?_
    refine rw_aload_n dX17_isAlike_15 1 rfl rfl ?_
    refine rw_getI fk17_5 q908 dX17_isAlike_16 rfl h3 ?_
    refine rw_icmp_ne (tgt := 59) dX17_isAlike_19 (by decide) (fun c5 => ?_) (fun c5 => ?_)
    · refine rw_aload_n dX17_isAlike_22 0 rfl rfl ?_
      refine rw_getI fk17_6 q910 dX17_isAlike_23 rfl h0 ?_
      refine rw_aload_n dX17_isAlike_26 1 rfl rfl ?_
      refine rw_getI fk17_6 q910 dX17_isAlike_27 rfl h3 ?_
      refine rw_icmp_ne (tgt := 59) dX17_isAlike_30 (by decide) (fun c6 => ?_) (fun c6 => ?_)
      · refine rw_aload_n dX17_isAlike_33 0 rfl rfl ?_
        refine rw_getI fk17_2 q902 dX17_isAlike_34 rfl h0 ?_
        refine rw_aload_n dX17_isAlike_37 1 rfl rfl ?_
        refine rw_getI fk17_2 q902 dX17_isAlike_38 rfl h3 ?_
        refine rw_icmp_ne (tgt := 59) dX17_isAlike_41 (by decide) (fun c7 => ?_) (fun c7 => ?_)
        · refine rw_aload_n dX17_isAlike_44 0 rfl rfl ?_
          refine rw_getI fk17_3 q904 dX17_isAlike_45 rfl h0 ?_
          refine rw_aload_n dX17_isAlike_48 1 rfl rfl ?_
          refine rw_getI fk17_3 q904 dX17_isAlike_49 rfl h3 ?_
          refine rw_icmp_ne (tgt := 59) dX17_isAlike_52 (by decide) (fun c8 => ?_) (fun c8 => ?_)
          · refine rw_iconst dX17_isAlike_55 ic_1 ?_
            refine rw_goto (tgt := 60) dX17_isAlike_56 (by decide) ?_
            exact rw_zret (Or.inr rfl) rfl dX17_isAlike_60
          · refine rw_iconst dX17_isAlike_59 ic_0 ?_
            exact rw_zret (Or.inl rfl) rfl dX17_isAlike_60
        · refine rw_iconst dX17_isAlike_59 ic_0 ?_
          exact rw_zret (Or.inl rfl) rfl dX17_isAlike_60
      · refine rw_iconst dX17_isAlike_59 ic_0 ?_
        exact rw_zret (Or.inl rfl) rfl dX17_isAlike_60
    · refine rw_iconst dX17_isAlike_59 ic_0 ?_
      exact rw_zret (Or.inl rfl) rfl dX17_isAlike_60
  · refine rw_iconst dX17_isAlike_59 ic_0 ?_
    exact rw_zret (Or.inl rfl) rfl dX17_isAlike_60
/-! StaveScore$Line.<init>(ILStaveScore$Event;LStaveScore$Event;)V -/
abbrev YX18_init : AwM := (yX18_init, cX18_init, 4, none, [])
theorem cb_X18_init : aw_cb YX18_init 3 := ⟨q963, q90, ⟨by decide +kernel, by decide +kernel, by decide +kernel⟩, by decide, rfl⟩
def fc_X18_init (a0 : Nat) (x1 : Int32) (x2 : Option Nat) (x3 : Option Nat) (G : AwH) : AwC :=
  nm_ (sI_ G a0 0 x1) fun G1 =>
  nm_ (sR_ G1 a0 1 x2) fun G2 =>
  nm_ (sR_ G2 a0 2 x3) fun G3 =>
  rV_ G3
theorem rm_X18_init (a0 : Nat) (x1 : Int32) (x2 : Option Nat) (x3 : Option Nat) (G : AwH) (h0 : tk_ [11] a0 = true) : RM YX18_init 1 [vA_ (some a0), vI_ x1, vA_ x2, vA_ x3] G (fc_X18_init a0 x1 x2 x3 G) := by
  refine rm_of rfl (by decide +kernel) (Nat.le_of_ble_eq_true rfl) ?_
  show RW YX18_init 1 0 [(0, vA_ (some a0)), (1, vI_ x1), (2, vA_ x2), (3, vA_ x3)] [] G _
  unfold fc_X18_init
  refine rw_aload_n dX18_init_0 0 rfl rfl ?_
  refine rw_objInit q964 q100 q101 dX18_init_1 rfl (Nat.le_of_ble_eq_true rfl) ?_
  refine rw_aload_n dX18_init_4 0 rfl rfl ?_
  refine rw_iload_n dX18_init_5 1 rfl rfl ?_
  refine rw_putI fk11_0 fk11_0_t (by decide +kernel) q965 dX18_init_6 rfl h0 (rw_nm fun G1 => ?_)
  refine rw_aload_n dX18_init_9 0 rfl rfl ?_
  refine rw_aload_n dX18_init_10 2 rfl rfl ?_
  refine rw_putA rfl fk11_1 fk11_1_t (by decide +kernel) q967 dX18_init_11 rfl h0 (rw_nm fun G2 => ?_)
  refine rw_aload_n dX18_init_14 0 rfl rfl ?_
  refine rw_aload_n dX18_init_15 3 rfl rfl ?_
  refine rw_putA rfl fk11_2 fk11_2_t (fin_var fk11_2_v) q969 dX18_init_16 rfl h0 (rw_nm fun G3 => ?_)
  exact rw_vret rfl dX18_init_19
/-! StaveScore$Voice.<init>()V -/
abbrev YX2_init : AwM := (yX2_init, cX2_init, 1, none, [])
theorem cb_X2_init : aw_cb YX2_init 0 := ⟨q135, q65, ⟨by decide +kernel, by decide +kernel, by decide +kernel⟩, by decide, rfl⟩
def fc_X2_init (a0 : Nat) (G : AwH) : AwC :=
  nn_ (na_ G 40 26) (nw_ G (na_ G 40 26) 40) fun a1 G2 =>
  nm_ (sR_ G2 a0 0 (some a1)) fun G4 =>
  nn_ (na_ G4 0 1) (nw_ G4 (na_ G4 0 1) 2) fun a5 G6 =>
  bV_ (fc_X1_init a5 G6) fun G9 =>
  nm_ (sR_ G9 a0 2 (some a5)) fun G10 =>
  rV_ G10
theorem rm_X2_init (a0 : Nat) (G : AwH) (h0 : tk_ [2] a0 = true) : RM YX2_init 2 [vA_ (some a0)] G (fc_X2_init a0 G) := by
  refine rm_of rfl (by decide +kernel) (Nat.le_of_ble_eq_true rfl) ?_
  show RW YX2_init 2 0 [(0, vA_ (some a0))] [] G _
  unfold fc_X2_init
  refine rw_aload_n dX2_init_0 0 rfl rfl ?_
  refine rw_objInit q136 q100 q101 dX2_init_1 rfl (Nat.le_of_ble_eq_true rfl) ?_
  refine rw_aload_n dX2_init_4 0 rfl rfl ?_
  refine rw_bipush dX2_init_5 bp_40 ?_
  refine rw_anewarray (u := 6) dX2_init_7 rfl q137 (by decide) (by decide) (by decide) (rw_nn (na_tk (by decide) (by decide)) fun a1 G2 h3 => ?_)
  refine rw_putA rfl fk2_0 fk2_0_t (by decide +kernel) q140 dX2_init_10 rfl h0 (rw_nm fun G4 => ?_)
  refine rw_aload_n dX2_init_13 0 rfl rfl ?_
  refine rw_new (t := 1) rfl dX2_init_14 q138 q118 q64 (rw_nn (na_tk (by decide) (by decide)) fun a5 G6 h7 => ?_)
  refine rw_dup rfl dX2_init_17 ?_
  refine rw_callIN (kc := kbV_ _) (Y' := YX1_init) (as := []) (st := [vA_ (some a5), vA_ (some a0)]) cb_X1_init rfl q120 rfl q139 dX2_init_18 rfl (by decide) rfl rfl (Nat.le_of_ble_eq_true rfl) (rm_X1_init a5 G6 h7) rfl (kV_ (fun G9 => ?_)) (kX_ (fun _ _ => rfl) (fun z hz => by cases hz))
  refine rw_putA rfl fk2_2 fk2_2_t (by decide +kernel) q143 dX2_init_21 rfl h0 (rw_nm fun G10 => ?_)
  exact rw_vret rfl dX2_init_24
