/-! ===== the machine's own exceptions (printed by gen_exc.py) ===== -/
def aw_good (w : Cond) : Bool := goodWord w || aw_mv w
set_option maxRecDepth 100000
theorem aw_exw {L : List Cond} (ps : List Nat) (hp : L = ps.filterMap (fun i => lw_tbl[i]?)) (hg : L.all aw_good = true) {D : va_G} {dA : Nat → ClassId} {s : State} {args : Array Value} (hts : ∀ w ∈ lw_all, w.before args s = true) (hT : aw_T D dA s) : ∀ w ∈ L, w.before args s = true := by
  intro w hw
  have h1 := List.all_eq_true.mp hg w hw
  rw [hp] at hw
  obtain ⟨i, -, hi⟩ := List.mem_filterMap.mp hw
  have hm : w ∈ lw_tbl := List.mem_of_getElem? hi
  unfold aw_good at h1
  rcases Bool.or_eq_true_iff.mp h1 with h | h
  · exact hts w (List.mem_filter.mpr ⟨hm, h⟩)
  · exact va_Nw.use (aw_mv_tab h) (hT.2.1 w hm h)
theorem exp_1 : vx_atM "java/lang/ArrayIndexOutOfBoundsException" ["java/lang/IndexOutOfBoundsException", "java/lang/RuntimeException", "java/lang/Exception"] = [81, 560, 502, 522, 525, 527, 561, 562, 100, 101, 496, 501, 523, 530, 554, 531, 555, 532, 556, 497, 499, 557, 494, 495, 529, 557, 661, 662, 663, 664, 676, 664, 665, 666, 488, 548, 488, 489, 490, 491, 550, 491, 492, 493, 494, 552, 85, 563, 131, 564, 566, 565, 567, 87, 660, 674, 677, 504, 669, 670, 672, 668, 559, 558, 667].filterMap (fun i => lw_tbl[i]?) := by decide +kernel
theorem exg_1 : (vx_atM "java/lang/ArrayIndexOutOfBoundsException" ["java/lang/IndexOutOfBoundsException", "java/lang/RuntimeException", "java/lang/Exception"]).all aw_good = true := by decide +kernel
theorem exo_1 : (vx_atM "java/lang/ArrayIndexOutOfBoundsException" ["java/lang/IndexOutOfBoundsException", "java/lang/RuntimeException", "java/lang/Exception"]).all vx_ot = true := by decide +kernel
theorem exp_2 : vx_atM "java/lang/ClassCastException" ["java/lang/RuntimeException", "java/lang/Exception"] = [81, 560, 502, 522, 525, 527, 561, 562, 100, 101, 496, 501, 523, 530, 554, 531, 555, 532, 556, 497, 499, 557, 494, 495, 529, 557, 485, 486, 487, 488, 548, 488, 489, 490, 491, 550, 491, 492, 493, 494, 552, 85, 563, 131, 564, 566, 565, 567, 84, 484, 546, 553, 506, 537, 539, 543, 535, 559, 558, 533].filterMap (fun i => lw_tbl[i]?) := by decide +kernel
theorem exg_2 : (vx_atM "java/lang/ClassCastException" ["java/lang/RuntimeException", "java/lang/Exception"]).all aw_good = true := by decide +kernel
theorem exo_2 : (vx_atM "java/lang/ClassCastException" ["java/lang/RuntimeException", "java/lang/Exception"]).all vx_ot = true := by decide +kernel
theorem exp_3 : vx_atM "java/lang/ArrayStoreException" ["java/lang/RuntimeException", "java/lang/Exception"] = [81, 560, 502, 522, 525, 527, 561, 562, 100, 101, 496, 501, 523, 530, 554, 531, 555, 532, 556, 497, 499, 557, 494, 495, 529, 557, 1167, 1168, 1169, 488, 548, 488, 489, 490, 491, 550, 491, 492, 493, 494, 552, 85, 563, 131, 564, 566, 565, 567, 93, 1166, 1177, 1178, 505, 1172, 1173, 1175, 1171, 559, 558, 1170].filterMap (fun i => lw_tbl[i]?) := by decide +kernel
theorem exg_3 : (vx_atM "java/lang/ArrayStoreException" ["java/lang/RuntimeException", "java/lang/Exception"]).all aw_good = true := by decide +kernel
theorem exo_3 : (vx_atM "java/lang/ArrayStoreException" ["java/lang/RuntimeException", "java/lang/Exception"]).all vx_ot = true := by decide +kernel
theorem exp_4 : vx_atM "java/lang/NegativeArraySizeException" ["java/lang/RuntimeException", "java/lang/Exception"] = [81, 560, 502, 522, 525, 527, 561, 562, 100, 101, 496, 501, 523, 530, 554, 531, 555, 532, 556, 497, 499, 557, 494, 495, 529, 557, 1116, 1117, 1118, 488, 548, 488, 489, 490, 491, 550, 491, 492, 493, 494, 552, 85, 563, 131, 564, 566, 565, 567, 91, 1115, 1126, 1127, 507, 1121, 1122, 1124, 1120, 559, 558, 1119].filterMap (fun i => lw_tbl[i]?) := by decide +kernel
theorem exg_4 : (vx_atM "java/lang/NegativeArraySizeException" ["java/lang/RuntimeException", "java/lang/Exception"]).all aw_good = true := by decide +kernel
theorem exo_4 : (vx_atM "java/lang/NegativeArraySizeException" ["java/lang/RuntimeException", "java/lang/Exception"]).all vx_ot = true := by decide +kernel
theorem exp_0 : vx_atN 8 = [81, 560, 502, 522, 525, 527, 561, 562, 100, 101, 496, 501, 523, 530, 554, 531, 555, 532, 556, 497, 499, 557, 519, 509, 510, 1150, 1152, 516, 517, 1164, 1141, 1142, 1143, 1144, 547, 1144, 1145, 1146, 1147, 549, 1147, 1148, 1149, 561, 551, 92, 514, 1162, 1163, 508, 1158, 1159, 1161, 559, 558, 1156].filterMap (fun i => lw_tbl[i]?) := by decide +kernel
theorem exg_0 : (vx_atN 8).all aw_good = true := by decide +kernel
theorem exo_0 : (vx_atN 8).all vx_ot = true := by decide +kernel
def aw_exn : Nat → List String
  | 1 => ["java/lang/IndexOutOfBoundsException", "java/lang/RuntimeException", "java/lang/Exception"]
  | _ => ["java/lang/RuntimeException", "java/lang/Exception"]
/-- a text that the machine can keep -/
def aw_tx (tx : String) : Prop := (tx == notModelled) = false ∧ (stringBytes (stringToUtf16 tx)).size ≤ 1000
theorem aw_hp.grow {base : Nat} {D : va_G} {dA : Nat → ClassId} {ad : Nat → Nat} {G : AwH} {s : State} {H H1 : Heap} {k n : Nat} (h : aw_hp base D dA ad G s H) (hz : H.size ≤ H1.size) (hq : ∀ q : Nat, q < H.size → H1[q]? = H[q]?) : aw_hp base D dA ad (th_ G k n) s H1 := by
  obtain ⟨h1, h2, h3, h4, h5, h6⟩ := h
  refine ⟨Nat.le_trans h1 hz, ?_, h3, h4, va_X.kept h5 (hq _ (Nat.lt_of_lt_of_le h6 h1)), h6⟩
  exact va_P.kept h2 (fun i q hi => hq _ (h2 i q hi).lt)
theorem aw_in_grow {Y : AwM} {s : State} {base : Nat} {D : va_G} {dA : Nat → ClassId} {ad0 : Nat → Nat} {G0 : AwH} {ls : List (Nat × AwV)} {st : List AwV} {G : AwH} {ad : Nat → Nat} {H H1 : Heap} {locs : List Loc} {cells slots c2 n2 : Nat} {lsC : Array Slot} (I : aw_in Y s base D dA ad0 G0 ls st G ad H locs cells slots lsC)
    (hz : H.size ≤ H1.size) (hq : ∀ q : Nat, q < H.size → H1[q]? = H[q]?) (hS : va_S (fun q => base ≤ q) s.heap H1 locs) (hc : c2 ≤ cells + 3) (hn : n2 ≤ slots + 1010) : aw_in Y s base D dA ad0 G0 ls [] (th_ G 3 1010) ad H1 locs c2 n2 lsC := by
  obtain ⟨i1, hh, i3, i4, i5, i6, i7, i8⟩ := I
  exact ⟨i1, aw_hp.grow hh hz hq, hS, i4, i5, fun v h => (List.not_mem_nil h).elim, by rw [gC_th]; omega, by rw [gS_th]; omega⟩
section AwExc
variable {Y : AwM} {d pc : Nat} {ls : List (Nat × AwV)} {st : List AwV} {G : AwH} {cx : AwC}
theorem aw_mo_th {G G' : AwH} {k n : Nat} (h : aw_mo (th_ G k n) G') : aw_mo G G' := by
  have h1 := h.1
  have h2 := h.2.1
  rw [gC_th] at h1
  rw [gS_th] at h2
  exact ⟨by omega, by omega, h.2.2.1, h.2.2.2⟩
theorem rw_thrN (rest0 : List AwV) (hsz : aw_sz rest0 ≤ 20)
    (hW : ∀ (p : Program) (l : Launch) (e : Env) (R : Room) (s : State) (m : MethodId) (args : Array Value) (below : List Frame) (meth : Method) (c : Code) (H : Heap) (locs : List Loc) (cells slots : Nat) (lsC : Array Slot) (Q : State → Prop) (base : Nat) (D : va_G) (dA : Nat → ClassId) (ad : Nat → Nat),
      p.tables.exec = Jvm.exec → c.code = Y.2.1 → (∀ w ∈ lw_all, w.before args s = true) → s.vm.findClass Y.1.cls = some m.cls → lsC.size = c.maxLocals → aw_T D dA s → aw_hp base D dA ad G s H → (∀ v ∈ st, aw_ok G v) →
      vx_NoteN p l e R s m args below meth c H locs cells slots Q (F0 m pc lsC (rest0.map (aw_cv ad))) →
      W p l e R s m args below meth c H locs cells slots Q (F0 m pc lsC (st.map (aw_cv ad))))
    (k : RX Y d pc ls (th_ G 3 1010) 0 cx) : RW Y d pc ls st G cx := by
  intro r G' e
  obtain ⟨hmo, hX⟩ := k r G' e
  refine ⟨aw_mo_th hmo, fun p l e R s m args below meth c base D dA ad0 G0 C ad H locs cells slots lsC I => ?_⟩
  have I0 := I
  obtain ⟨i1, hh, i3, i4, i5, i6, i7, i8⟩ := I
  have C0 := C
  obtain ⟨x1, x2, x3, x4, x5, x6, x7, x8, x9, x10, x11, x12, x13, x14, x15, x16, x17⟩ := C
  have m1 := hmo.1
  have m2 := hmo.2.1
  rw [gC_th] at m1
  rw [gS_th] at m2
  refine hW p l e R s m args below meth c H locs cells slots lsC _ base D dA ad x1 x2 x3 x4 (i4.1.trans x7.symm) x15 hh i6 ?_
  refine vx_npe (nb := 8) (A := fun q => base ≤ q) x1 x10 (aw_exw _ exp_0 exg_0 x3 x15) (List.all_eq_true.mp exo_0) x16.1 x16.2 i3 (i4.1.trans x7.symm) (by omega) (by rw [aw_sz_cat]; omega) (by omega) (by omega) x5 ?_
  intro H1 q9 ce hz hq hS hce hcv hcl
  exact hX p l e R s m args below meth c base D dA ad0 G0 C0 ad H1 locs (cells + 1) (slots + 8) lsC _ q9 ce (aw_in_grow I0 hz hq hS (by omega) (by omega)) hce hcv hcl
theorem rw_thrM {x : Nat} (hx : 1 ≤ x ∧ x ≤ 4) (hd0 : 0 < d) (rest0 : List AwV) (hsz : aw_sz rest0 ≤ 20)
    (hW : ∀ (p : Program) (l : Launch) (e : Env) (R : Room) (s : State) (m : MethodId) (args : Array Value) (below : List Frame) (meth : Method) (c : Code) (H : Heap) (locs : List Loc) (cells slots : Nat) (lsC : Array Slot) (Q : State → Prop) (base : Nat) (D : va_G) (dA : Nat → ClassId) (ad : Nat → Nat),
      p.tables.exec = Jvm.exec → c.code = Y.2.1 → (∀ w ∈ lw_all, w.before args s = true) → s.vm.findClass Y.1.cls = some m.cls → lsC.size = c.maxLocals → aw_T D dA s → aw_hp base D dA ad G s H → (∀ v ∈ st, aw_ok G v) →
      (∀ tx : String, aw_tx tx → vx_Note p l e R s m args below meth c H locs cells slots Q (F0 m pc lsC (rest0.map (aw_cv ad))) (aw_ex x) tx) →
      W p l e R s m args below meth c H locs cells slots Q (F0 m pc lsC (st.map (aw_cv ad))))
    (k : RX Y d pc ls (th_ G 3 1010) x cx) : RW Y d pc ls st G cx := by
  intro r G' e
  obtain ⟨hmo, hX⟩ := k r G' e
  refine ⟨aw_mo_th hmo, fun p l e R s m args below meth c base D dA ad0 G0 C ad H locs cells slots lsC I => ?_⟩
  have I0 := I
  obtain ⟨i1, hh, i3, i4, i5, i6, i7, i8⟩ := I
  have C0 := C
  obtain ⟨x1, x2, x3, x4, x5, x6, x7, x8, x9, x10, x11, x12, x13, x14, x15, x16, x17⟩ := C
  have m1 := hmo.1
  have m2 := hmo.2.1
  rw [gC_th] at m1
  rw [gS_th] at m2
  refine hW p l e R s m args below meth c H locs cells slots lsC _ base D dA ad x1 x2 x3 x4 (i4.1.trans x7.symm) x15 hh i6 ?_
  intro tx htx
  have go : ∀ (cls : String) (names : List String), cls = aw_ex x → Bundle.fit cls = true → (∀ n ∈ names, Bundle.fit n = true) → (cls == "java/lang/StackOverflowError") = false → (cls == "java/lang/OutOfMemoryError") = false → (∀ w ∈ vx_atM cls names, w.before args s = true) → (∀ w ∈ vx_atM cls names, vx_ot w = true) → names.length ≤ 3 →
      vx_Note p l e R s m args below meth c H locs cells slots (aw_PQ below base D dA ad0 G0 r G' args s) (F0 m pc lsC (rest0.map (aw_cv ad))) (aw_ex x) tx := by
    intro cls names hc h1 h2 h3 h4 h5 h6 h7
    rw [← hc]
    refine vx_vm (names := names) (nb := 1000) (A := fun q => base ≤ q) x1 x10 h1 h2 h3 h4 h5 h6 x16.1 x16.2 i3 (i4.1.trans x7.symm) htx.1 htx.2 (Nat.le_refl _) (by omega) (by rw [aw_sz_cat]; omega) (by omega) (by omega) (by omega) x5 ?_
    intro H1 q9 ce hz hq hS hce hcv hcl
    exact hX p l e R s m args below meth c base D dA ad0 G0 C0 ad H1 locs (cells + 3) (slots + 1010) lsC _ q9 ce (aw_in_grow I0 hz hq hS (by omega) (by omega)) hce hcv (by rw [← hc]; exact hcl)
  obtain ⟨hx1, hx2⟩ := hx
  match x, hx1, hx2, go with
  | 1, _, _, go => exact go "java/lang/ArrayIndexOutOfBoundsException" ["java/lang/IndexOutOfBoundsException", "java/lang/RuntimeException", "java/lang/Exception"] rfl (by decide +kernel) (by decide +kernel) (by decide +kernel) (by decide +kernel) (aw_exw _ exp_1 exg_1 x3 x15) (List.all_eq_true.mp exo_1) (by decide)
  | 2, _, _, go => exact go "java/lang/ClassCastException" ["java/lang/RuntimeException", "java/lang/Exception"] rfl (by decide +kernel) (by decide +kernel) (by decide +kernel) (by decide +kernel) (aw_exw _ exp_2 exg_2 x3 x15) (List.all_eq_true.mp exo_2) (by decide)
  | 3, _, _, go => exact go "java/lang/ArrayStoreException" ["java/lang/RuntimeException", "java/lang/Exception"] rfl (by decide +kernel) (by decide +kernel) (by decide +kernel) (by decide +kernel) (aw_exw _ exp_3 exg_3 x3 x15) (List.all_eq_true.mp exo_3) (by decide)
  | 4, _, _, go => exact go "java/lang/NegativeArraySizeException" ["java/lang/RuntimeException", "java/lang/Exception"] rfl (by decide +kernel) (by decide +kernel) (by decide +kernel) (by decide +kernel) (aw_exw _ exp_4 exg_4 x3 x15) (List.all_eq_true.mp exo_4) (by decide)
end AwExc
