/-! ===== the classes and array types by their kinds; what a heap of the machine has to do with an abstract one ===== -/
def aw_cl : List vw_C := [(RX0, TX0, 24), (RX1, TX1, 2), (RX2, TX2, 3), (RX3, TX3, 2), (RX4, TX4, 51), (RX5, TX5, 1), (RX6, TX6, 2), (RX7, TX7, 2), (RX8, TX8, 3), (RX9, TX9, 4), (RX10, TX10, 2), (RX18, TX18, 3), (RX12, TX12, 8), (RX13, TX13, 10), (RX14, TX14, 8), (RX15, TX15, 6), (RX16, TX16, 6), (RX17, TX17, 7)]
def aw_ft : Nat → Nat → FieldType
  | 0 => tyX0 | 1 => tyX1 | 2 => tyX2 | 3 => tyX3 | 4 => tyX4 | 5 => tyX5 | 6 => tyX6 | 7 => tyX7 | 8 => tyX8 | 9 => tyX9 | 10 => tyX10 | 11 => tyX18 | 12 => tyX12 | 13 => tyX13 | 14 => tyX14 | 15 => tyX15 | 16 => tyX16 | 17 => tyX17
  | _ => fun _ => .int
def aw_nf (t : Nat) : Nat := match aw_cl[t]? with
  | some r => r.2.2
  | none => 0
/-- what is asked of a class's table -/
def aw_okc (r : vw_C) (ty : Nat → FieldType) : Prop := (∀ w ∈ u_ws r.1 r.2.1 r.2.2, w ∈ lw_all) ∧ (∀ k, k < r.2.2 → parseFieldDescriptor (r.2.1 k).2.2.1 = some (ty k)) ∧ (∀ a, a < r.2.2 → ∀ b, b < r.2.2 → a ≠ b → (r.2.1 a).2.1 ≠ (r.2.1 b).2.1 ∨ ((r.2.1 a).1 ≠ (r.2.1 b).1 ∧ (r.2.1 a).2.2.2 = true ∧ (r.2.1 b).2.2.2 = true)) ∧ plainName r.1 = true
theorem aw_ok0 : aw_okc (RX0, TX0, 24) tyX0 := ⟨in_X0, tyX0_ok, fun a ha b hb n => Or.inl (nmX0 a ha b hb n), by decide⟩
theorem aw_ok1 : aw_okc (RX1, TX1, 2) tyX1 := ⟨in_X1, tyX1_ok, fun a ha b hb n => Or.inl (nmX1 a ha b hb n), by decide⟩
theorem aw_ok2 : aw_okc (RX2, TX2, 3) tyX2 := ⟨in_X2, tyX2_ok, fun a ha b hb n => Or.inl (nmX2 a ha b hb n), by decide⟩
theorem aw_ok3 : aw_okc (RX3, TX3, 2) tyX3 := ⟨in_X3, tyX3_ok, fun a ha b hb n => Or.inl (nmX3 a ha b hb n), by decide⟩
theorem aw_ok4 : aw_okc (RX4, TX4, 51) tyX4 := ⟨in_X4, tyX4_ok, fun a ha b hb n => Or.inl (nmX4 a ha b hb n), by decide⟩
theorem aw_ok5 : aw_okc (RX5, TX5, 1) tyX5 := ⟨in_X5, tyX5_ok, by decide +kernel, by decide⟩
theorem aw_ok6 : aw_okc (RX6, TX6, 2) tyX6 := ⟨in_X6, tyX6_ok, by decide +kernel, by decide⟩
theorem aw_ok7 : aw_okc (RX7, TX7, 2) tyX7 := ⟨in_X7, tyX7_ok, by decide +kernel, by decide⟩
theorem aw_ok8 : aw_okc (RX8, TX8, 3) tyX8 := ⟨in_X8, tyX8_ok, by decide +kernel, by decide⟩
theorem aw_ok9 : aw_okc (RX9, TX9, 4) tyX9 := ⟨in_X9, tyX9_ok, by decide +kernel, by decide⟩
theorem aw_ok10 : aw_okc (RX10, TX10, 2) tyX10 := ⟨in_X10, tyX10_ok, by decide +kernel, by decide⟩
theorem aw_ok11 : aw_okc (RX18, TX18, 3) tyX18 := ⟨in_X18, tyX18_ok, fun a ha b hb n => Or.inl (nmX18 a ha b hb n), by decide⟩
theorem aw_ok12 : aw_okc (RX12, TX12, 8) tyX12 := ⟨in_X12, tyX12_ok, fun a ha b hb n => Or.inl (nmX12 a ha b hb n), by decide⟩
theorem aw_ok13 : aw_okc (RX13, TX13, 10) tyX13 := ⟨in_X13, tyX13_ok, fun a ha b hb n => Or.inl (nmX13 a ha b hb n), by decide⟩
theorem aw_ok14 : aw_okc (RX14, TX14, 8) tyX14 := ⟨in_X14, tyX14_ok, fun a ha b hb n => Or.inl (nmX14 a ha b hb n), by decide⟩
theorem aw_ok15 : aw_okc (RX15, TX15, 6) tyX15 := ⟨in_X15, tyX15_ok, fun a ha b hb n => Or.inl (nmX15 a ha b hb n), by decide⟩
theorem aw_ok16 : aw_okc (RX16, TX16, 6) tyX16 := ⟨in_X16, tyX16_ok, fun a ha b hb n => Or.inl (nmX16 a ha b hb n), by decide⟩
theorem aw_ok17 : aw_okc (RX17, TX17, 7) tyX17 := ⟨in_X17, tyX17_ok, fun a ha b hb n => Or.inl (nmX17 a ha b hb n), by decide⟩
theorem aw_okt : ∀ (t : Nat) (r : vw_C), aw_cl[t]? = some r → aw_okc r (aw_ft t) ∧ aw_nf t = r.2.2
  | 0, r, h => by cases h; exact ⟨aw_ok0, rfl⟩
  | 1, r, h => by cases h; exact ⟨aw_ok1, rfl⟩
  | 2, r, h => by cases h; exact ⟨aw_ok2, rfl⟩
  | 3, r, h => by cases h; exact ⟨aw_ok3, rfl⟩
  | 4, r, h => by cases h; exact ⟨aw_ok4, rfl⟩
  | 5, r, h => by cases h; exact ⟨aw_ok5, rfl⟩
  | 6, r, h => by cases h; exact ⟨aw_ok6, rfl⟩
  | 7, r, h => by cases h; exact ⟨aw_ok7, rfl⟩
  | 8, r, h => by cases h; exact ⟨aw_ok8, rfl⟩
  | 9, r, h => by cases h; exact ⟨aw_ok9, rfl⟩
  | 10, r, h => by cases h; exact ⟨aw_ok10, rfl⟩
  | 11, r, h => by cases h; exact ⟨aw_ok11, rfl⟩
  | 12, r, h => by cases h; exact ⟨aw_ok12, rfl⟩
  | 13, r, h => by cases h; exact ⟨aw_ok13, rfl⟩
  | 14, r, h => by cases h; exact ⟨aw_ok14, rfl⟩
  | 15, r, h => by cases h; exact ⟨aw_ok15, rfl⟩
  | 16, r, h => by cases h; exact ⟨aw_ok16, rfl⟩
  | 17, r, h => by cases h; exact ⟨aw_ok17, rfl⟩
  | n + 18, r, h => by simp [aw_cl] at h
/-- array types -/
def aw_al : List FieldType := [.int, .long, .byte, .boolean, .char, .short, .object "StaveScore$Event", .object "StaveScore$Note", .object "StaveScore$Chord", .object "StaveScore$Grace", .object "StaveScore$Rest", .object "StaveScore$Breath", .object "StaveScore$Hears", .object "StaveScore$Fraction", .object "StaveScore$Voice", .object "StaveScore$Tuplet", .object "StaveScore$Line", .object "StaveScore$Shelf", .array (.object "StaveScore$Event")]
def aw_tys (dA : Nat → ClassId) : List (ClassId × FieldType) := (List.range 19).map fun u => (dA u, aw_al.getD u .int)
theorem aw_tys_at (dA : Nat → ClassId) {u : Nat} {ty : FieldType} (h : aw_al[u]? = some ty) : (aw_tys dA)[u]? = some (dA u, ty) := by
  have hu : u < 19 := (List.getElem?_eq_some_iff.mp h).1
  unfold aw_tys
  rw [List.getElem?_map, List.getElem?_range hu, Option.map_some]
  rw [List.getD_eq_getElem?_getD, h]
  rfl
/-- what a field or an element holds -/
def aw_fv (ty : FieldType) (ad : Nat → Nat) (G : AwH) (a k : Nat) : Value := match ty with
  | .long => .long (gL_ G a k)
  | .object _ => va_rf ((gR_ G a k).map ad)
  | .array _ => va_rf ((gR_ G a k).map ad)
  | _ => .int (gI_ G a k)
def aw_fs (t : Nat) (ad : Nat → Nat) (G : AwH) (a : Nat) : List Value := (List.range (aw_nf t)).map fun k => aw_fv (aw_ft t k) ad G a k
def aw_ar (u : Nat) (ad : Nat → Nat) (G : AwH) (a : Nat) : (Nat → Int32) ⊕ (Nat → Int64) ⊕ (Nat → UInt32) ⊕ (Nat → UInt64) ⊕ (Nat → Option Nat) :=
  if u = 1 then .inr (.inl (gL_ G a)) else if u < 6 then .inl (gI_ G a) else .inr (.inr (.inr (.inr fun k => (gR_ G a k).map ad)))
def aw_en (dA : Nat → ClassId) (ad : Nat → Nat) (G : AwH) (a : Nat) : va_E :=
  if a % 64 < 20 then .inr (a % 64, aw_fs (a % 64) ad G a) else .inl (dA (a % 64 - 20), a / 64 % 1024, aw_ar (a % 64 - 20) ad G a)
def aw_ws (dA : Nat → ClassId) (ad : Nat → Nat) (G : AwH) : va_W := (gA_ G).map fun a => (ad a, aw_en dA ad G a)
theorem aw_ws_at {dA : Nat → ClassId} {ad : Nat → Nat} {G : AwH} {a : Nat} (h : a ∈ gA_ G) : ∃ i : Nat, (gA_ G)[i]? = some a ∧ (aw_ws dA ad G)[i]? = some (ad a, aw_en dA ad G a) := by
  obtain ⟨i, hi⟩ := List.getElem?_of_mem h
  exact ⟨i, hi, by rw [aw_ws, List.getElem?_map, hi, Option.map_some]⟩
def aw_wf (G : AwH) : Prop := (∀ a ∈ gA_ G, a < 65536 * gX_ G ∧ a % 64 ≠ 60) ∧ (∀ a k b, gR_ G a k = some b → b ∈ gA_ G ∨ b = gZ_ G) ∧ gZ_ G % 64 = 60 ∧ gZ_ G < 65536 * gX_ G
def aw_ok (G : AwH) (v : AwV) : Prop := match v with
  | .inr (.inr (some a)) => a ∈ gA_ G ∨ a = gZ_ G
  | _ => True
def aw_cv (ad : Nat → Nat) (v : AwV) : Value := match v with
  | .inl x => .int x
  | .inr (.inl x) => .long x
  | .inr (.inr r) => va_rf (r.map ad)
/-- the machine's heap H holds the abstract heap G, at the addresses ad -/
def aw_hp (base : Nat) (D : va_G) (dA : Nat → ClassId) (ad : Nat → Nat) (G : AwH) (U : State) (H : Heap) : Prop :=
  base ≤ H.size ∧ va_P D aw_cl (aw_ws dA ad G) H ∧ va_D (fun q => base ≤ q) (aw_ws dA ad G) ∧ aw_wf G ∧ va_X (ad (gZ_ G)) (ln_ (gZ_ G)) (gI_ G (gZ_ G)) U H ∧ ad (gZ_ G) < base
/-- words that no reader of steady words carries -/
def aw_mv : Cond → Bool
  | .fieldLinkNest _ _ _ _ _ _ => true
  | .methodLinkNest _ _ _ _ => true
  | .declares _ => true
  | .castable _ _ => true
  | _ => false
theorem aw_mv_tab {w : Cond} (h : aw_mv w = true) : w.onTables = true := by
  cases w <;> first | rfl | (simp [aw_mv] at h)
theorem aw_mv_warm {w : Cond} (h : aw_mv w = true) {s U : State} (hW : s.WarmedH U.vm) (hZ : va_Nw w s) : va_Nw w U := by
  cases w <;> first
    | exact va_Nw.warmF hW hZ
    | exact va_Nw.warmM hW hZ
    | exact va_Nw.warmD hW hZ
    | exact va_Nw.warmC hW hZ
    | (simp [aw_mv] at h)
/-- the racks' array type -/
def aw_AA (U : State) : Prop := (Cond.arrayOver (.array (.object "StaveScore$Event"))).before #[] U = true
theorem aw_AA.moved {u U : State} (hvm : u.vm.Alike U.vm) (h : aw_AA u) : aw_AA U := by
  obtain ⟨comp, c, k, h1, h2, h3, h4, h5⟩ := arrayOverA_spec h
  obtain ⟨k', hk', he⟩ := hvm.2.2 _ _ h3
  have hi : (U.vm.classes.findIdx? fun (x : Class) => match x.kind with | .array component _ => component == comp | _ => false) = some c := by
    rw [hvm.findIdx?_eq _ (fun _ => rfl)]
    exact h2
  have hkind : k'.kind = .array comp (.array (.object "StaveScore$Event")) := by rw [he]; exact h4
  have f1 : U.vm.findClass (FieldType.array (.object "StaveScore$Event")).toString = some comp := by rw [hvm.findClass]; exact h1
  have f2 : U.vm.findClass ("[" ++ (FieldType.array (.object "StaveScore$Event")).toString) = some c := by rw [hvm.findClass]; exact h5
  unfold aw_AA Cond.before Cond.holds
  simp only [Cond.value]
  rw [f1, Option.bind_some]
  refine (congrArg (fun o : Option Nat => (o.bind (fun c => (U.vm.classes[c]?).map fun (k : Class) => match k.kind with | .array _ ty => decide (ty = FieldType.array (.object "StaveScore$Event")) && decide (U.vm.findClass ("[" ++ (FieldType.array (.object "StaveScore$Event")).toString) = some c) | _ => false) == some true)) hi).trans ?_
  simp [hk', hkind, f2]
/-- the interface's own body of 'has' -/
def aw_DF (U : State) : Prop := ∀ C ∈ aw_hasC, (Cond.landsInDefault C aw_hasX aw_hasX).before #[] U = true
theorem aw_DF.moved {u U : State} (hvm : u.vm.Alike U.vm) (h : aw_DF u) : aw_DF U := fun C hC => show (Cond.landsInDefault C aw_hasX aw_hasX).before #[] (u.setVm U.vm) = true by
  rw [Cond.landsInDefault_setVm hvm (State.methodFound?_setVm hvm _ _ _)]; exact h C hC
theorem aw_MR.moved {u U : State} (hvm : u.vm.Alike U.vm) (h : modulesRight_1 u = true) : modulesRight_1 U = true := by
  have e : U.vm.modules = u.vm.modules := by rw [hvm.1]
  unfold modulesRight_1 at *
  rw [e]; exact h
/-- what the tables say, at any state of the run -/
def aw_T (D : va_G) (dA : Nat → ClassId) (U : State) : Prop :=
  va_K D aw_cl (aw_tys dA) U ∧ (∀ w ∈ lw_tbl, aw_mv w = true → va_Nw w U) ∧ (∀ q ∈ aw_nc, va_Nc q.1 q.2 U) ∧ (∀ C, FieldType.object C ∈ aw_al → va_AO C U) ∧ (∀ q ∈ aw_fw, va_Fw q.1 q.2.1 q.2.2 U) ∧ (∀ q ∈ aw_ca, va_Nw (.castable q.1 q.2) U) ∧ aw_AA U ∧ modulesRight_1 U = true ∧ aw_DF U
set_option maxRecDepth 100000 in
theorem aw_fw_x : ∀ q ∈ aw_fw, q.2.1.cls ≠ "java/lang/invoke/MethodHandle" ∧ q.2.1.cls ≠ "java/lang/invoke/VarHandle" := by decide +kernel
theorem aw_T.warm {D : va_G} {dA : Nat → ClassId} {s U : State} (hW : s.WarmedH U.vm) (h : aw_T D dA s) : aw_T D dA U := by
  obtain ⟨h1, h2, h3, h4, h5, h6, h7, h8, h9⟩ := h
  exact ⟨va_K.moved hW.alike h1, fun w hw g => aw_mv_warm g hW (h2 w hw g), fun q hq => va_Nc.moved hW.alike (h3 q hq), fun C hC => va_AO.moved hW.alike (h4 C hC), fun q hq => va_Fw.moved (aw_fw_x q hq) hW.alike (h5 q hq), fun q hq => va_Nw.warmC hW (h6 q hq), aw_AA.moved hW.alike h7, aw_MR.moved hW.alike h8, aw_DF.moved hW.alike h9⟩
/-- Throwable's two statics -/
def aw_Zs (base : Nat) (U : State) (H : Heap) : Prop := vx_Zq Bundle.tN "UNASSIGNED_STACK" Bundle.steD (fun q => base ≤ q) U H ∧ vx_Zq Bundle.tN "SUPPRESSED_SENTINEL" Bundle.listD (fun q => base ≤ q) U H
