/-! ===== THE ABSTRACT HEAP: ints, longs and references by abstract address and place; an abstract address tells its class or array type (a % 64) and its length (a / 64 % 1024) ===== -/
abbrev AwV : Type := Int32 ⊕ (Int64 ⊕ Option Nat)
abbrev vI_ (x : Int32) : AwV := .inl x
abbrev vL_ (x : Int64) : AwV := .inr (.inl x)
abbrev vA_ (r : Option Nat) : AwV := .inr (.inr r)
abbrev AwH : Type := (Nat → Nat → Int32) × (Nat → Nat → Int64) × (Nat → Nat → Option Nat) × Nat × List Nat × Nat × Nat × Nat
def gI_ (G : AwH) (a k : Nat) : Int32 := G.1 a k
def gL_ (G : AwH) (a k : Nat) : Int64 := G.2.1 a k
def gR_ (G : AwH) (a k : Nat) : Option Nat := G.2.2.1 a k
def gX_ (G : AwH) : Nat := G.2.2.2.1
def gA_ (G : AwH) : List Nat := G.2.2.2.2.1
def gC_ (G : AwH) : Nat := G.2.2.2.2.2.1
def gS_ (G : AwH) : Nat := G.2.2.2.2.2.2.1
def gZ_ (G : AwH) : Nat := G.2.2.2.2.2.2.2
def sI_ (G : AwH) (a k : Nat) (v : Int32) : AwH := (fun b j => if b = a ∧ j = k then v else G.1 b j, G.2)
def sL_ (G : AwH) (a k : Nat) (v : Int64) : AwH := (G.1, fun b j => if b = a ∧ j = k then v else G.2.1 b j, G.2.2)
def sR_ (G : AwH) (a k : Nat) (v : Option Nat) : AwH := (G.1, G.2.1, fun b j => if b = a ∧ j = k then v else G.2.2.1 b j, G.2.2.2)
/-- a new cell at a, of w slots -/
def nw_ (G : AwH) (a w : Nat) : AwH := (fun b j => if b = a then 0 else G.1 b j, fun b j => if b = a then 0 else G.2.1 b j, fun b j => if b = a then none else G.2.2.1 b j, gX_ G + 1, gA_ G ++ [a], gC_ G + 1, gS_ G + w, gZ_ G)
/-- the next address, for length n and kind t -/
def na_ (G : AwH) (n t : Nat) : Nat := 65536 * gX_ G + 64 * n + t
/-- cells spent on an exception -/
def th_ (G : AwH) (k n : Nat) : AwH := (G.1, G.2.1, G.2.2.1, gX_ G, gA_ G, gC_ G + k, gS_ G + n, gZ_ G)
def tg_ (a : Nat) : Nat := a % 64
def ln_ (a : Nat) : Nat := a / 64 % 1024
def ix_ (i : Int32) : Nat := i.toNatClampNeg
def ib_ (i : Int32) (n : Nat) : Bool := decide (¬ (i < 0 ∨ n ≤ i.toNatClampNeg))
section AwGet
variable (G : AwH) (a b k j w n : Nat) (x : Int32) (y : Int64) (r : Option Nat)
theorem gI_sI : gI_ (sI_ G a k x) b j = if b = a ∧ j = k then x else gI_ G b j := rfl
theorem gL_sI : gL_ (sI_ G a k x) b j = gL_ G b j := rfl
theorem gR_sI : gR_ (sI_ G a k x) b j = gR_ G b j := rfl
theorem gX_sI : gX_ (sI_ G a k x) = gX_ G := rfl
theorem gA_sI : gA_ (sI_ G a k x) = gA_ G := rfl
theorem gC_sI : gC_ (sI_ G a k x) = gC_ G := rfl
theorem gS_sI : gS_ (sI_ G a k x) = gS_ G := rfl
theorem gZ_sI : gZ_ (sI_ G a k x) = gZ_ G := rfl
theorem gI_sL : gI_ (sL_ G a k y) b j = gI_ G b j := rfl
theorem gL_sL : gL_ (sL_ G a k y) b j = if b = a ∧ j = k then y else gL_ G b j := rfl
theorem gR_sL : gR_ (sL_ G a k y) b j = gR_ G b j := rfl
theorem gX_sL : gX_ (sL_ G a k y) = gX_ G := rfl
theorem gA_sL : gA_ (sL_ G a k y) = gA_ G := rfl
theorem gC_sL : gC_ (sL_ G a k y) = gC_ G := rfl
theorem gS_sL : gS_ (sL_ G a k y) = gS_ G := rfl
theorem gZ_sL : gZ_ (sL_ G a k y) = gZ_ G := rfl
theorem gI_sR : gI_ (sR_ G a k r) b j = gI_ G b j := rfl
theorem gL_sR : gL_ (sR_ G a k r) b j = gL_ G b j := rfl
theorem gR_sR : gR_ (sR_ G a k r) b j = if b = a ∧ j = k then r else gR_ G b j := rfl
theorem gX_sR : gX_ (sR_ G a k r) = gX_ G := rfl
theorem gA_sR : gA_ (sR_ G a k r) = gA_ G := rfl
theorem gC_sR : gC_ (sR_ G a k r) = gC_ G := rfl
theorem gS_sR : gS_ (sR_ G a k r) = gS_ G := rfl
theorem gZ_sR : gZ_ (sR_ G a k r) = gZ_ G := rfl
theorem gI_nw : gI_ (nw_ G a w) b j = if b = a then 0 else gI_ G b j := rfl
theorem gL_nw : gL_ (nw_ G a w) b j = if b = a then 0 else gL_ G b j := rfl
theorem gR_nw : gR_ (nw_ G a w) b j = if b = a then none else gR_ G b j := rfl
theorem gX_nw : gX_ (nw_ G a w) = gX_ G + 1 := rfl
theorem gA_nw : gA_ (nw_ G a w) = gA_ G ++ [a] := rfl
theorem gC_nw : gC_ (nw_ G a w) = gC_ G + 1 := rfl
theorem gS_nw : gS_ (nw_ G a w) = gS_ G + w := rfl
theorem gZ_nw : gZ_ (nw_ G a w) = gZ_ G := rfl
theorem gI_th : gI_ (th_ G k n) b j = gI_ G b j := rfl
theorem gL_th : gL_ (th_ G k n) b j = gL_ G b j := rfl
theorem gR_th : gR_ (th_ G k n) b j = gR_ G b j := rfl
theorem gX_th : gX_ (th_ G k n) = gX_ G := rfl
theorem gA_th : gA_ (th_ G k n) = gA_ G := rfl
theorem gC_th : gC_ (th_ G k n) = gC_ G + k := rfl
theorem gS_th : gS_ (th_ G k n) = gS_ G + n := rfl
theorem gZ_th : gZ_ (th_ G k n) = gZ_ G := rfl
end AwGet
/-! ===== computations: an answer or an exception, and the heap behind it; none: stuck ===== -/
abbrev AwR : Type := Option AwV ⊕ Nat
abbrev AwC : Type := Option (AwR × AwH)
abbrev rI_ (x : Int32) (G : AwH) : AwC := some (.inl (some (vI_ x)), G)
abbrev rL_ (x : Int64) (G : AwH) : AwC := some (.inl (some (vL_ x)), G)
abbrev rA_ (x : Option Nat) (G : AwH) : AwC := some (.inl (some (vA_ x)), G)
abbrev rV_ (G : AwH) : AwC := some (.inl none, G)
abbrev rX_ (e : Nat) (G : AwH) : AwC := some (.inr e, G)
def bI_ (c : AwC) (k : Int32 → AwH → AwC) : AwC := match c with
  | some (.inl (some (.inl x)), G) => k x G
  | some (.inr e, G) => some (.inr e, G)
  | _ => none
def bL_ (c : AwC) (k : Int64 → AwH → AwC) : AwC := match c with
  | some (.inl (some (.inr (.inl x))), G) => k x G
  | some (.inr e, G) => some (.inr e, G)
  | _ => none
def bA_ (c : AwC) (k : Option Nat → AwH → AwC) : AwC := match c with
  | some (.inl (some (.inr (.inr x))), G) => k x G
  | some (.inr e, G) => some (.inr e, G)
  | _ => none
def bV_ (c : AwC) (k : AwH → AwC) : AwC := match c with
  | some (.inl none, G) => k G
  | some (.inr e, G) => some (.inr e, G)
  | _ => none
/-- exceptions of c go to h -/
def bX_ (c : AwC) (h : Nat → AwH → AwC) (k : AwC → AwC) : AwC := match c with
  | some (.inr e, G) => h e G
  | c => k c
def gd_ (b : Bool) (c : AwC) : AwC := if b = true then c else none
def on_ (r : Option Nat) (e : AwC) (f : Nat → AwC) : AwC := match r with
  | none => e
  | some a => f a
/-- a place where roads meet -/
def jn_ {τ : Type} (j : τ) (b : τ → AwC) : AwC := b j
/-- a loop, of at most n rounds; z: no rounds left -/
def lp_ {τ : Type} (z : τ) (b : τ → τ) : Nat → τ
  | 0 => z
  | n + 1 => b (lp_ z b n)
/-- a heap by a name -/
def nm_ (G : AwH) (k : AwH → AwC) : AwC := k G
/-- a new cell's address and the heap with it -/
def nn_ (a : Nat) (G : AwH) (k : Nat → AwH → AwC) : AwC := k a G
/-- a is of one of the kinds L -/
def tk_ (L : List Nat) (a : Nat) : Bool := L.contains (tg_ a)
def zb_ (x : Int32) : Bool := decide (x = 0 ∨ x = 1)
theorem bI_r (x : Int32) (G : AwH) (k : Int32 → AwH → AwC) : bI_ (rI_ x G) k = k x G := rfl
theorem bL_r (x : Int64) (G : AwH) (k : Int64 → AwH → AwC) : bL_ (rL_ x G) k = k x G := rfl
theorem bA_r (x : Option Nat) (G : AwH) (k : Option Nat → AwH → AwC) : bA_ (rA_ x G) k = k x G := rfl
theorem bV_r (G : AwH) (k : AwH → AwC) : bV_ (rV_ G) k = k G := rfl
theorem bI_x (e : Nat) (G : AwH) (k : Int32 → AwH → AwC) : bI_ (rX_ e G) k = rX_ e G := rfl
theorem bL_x (e : Nat) (G : AwH) (k : Int64 → AwH → AwC) : bL_ (rX_ e G) k = rX_ e G := rfl
theorem bA_x (e : Nat) (G : AwH) (k : Option Nat → AwH → AwC) : bA_ (rX_ e G) k = rX_ e G := rfl
theorem bV_x (e : Nat) (G : AwH) (k : AwH → AwC) : bV_ (rX_ e G) k = rX_ e G := rfl
theorem gd_t (c : AwC) : gd_ true c = c := rfl
theorem on_s (a : Nat) (e : AwC) (f : Nat → AwC) : on_ (some a) e f = f a := rfl
theorem on_n (e : AwC) (f : Nat → AwC) : on_ none e f = e := rfl
theorem lp_s {τ : Type} (z : τ) (b : τ → τ) (n : Nat) : lp_ z b (n + 1) = b (lp_ z b n) := rfl
theorem tk_mono {L1 L2 : List Nat} {a : Nat} (h : L1.all L2.contains = true) (k : tk_ L1 a = true) : tk_ L2 a = true := List.all_eq_true.mp h _ (List.contains_iff_mem.mp k)
theorem tk1 {t a : Nat} (h : tk_ [t] a = true) : tg_ a = t := List.mem_singleton.mp (List.contains_iff_mem.mp h)
theorem tk_lt {L : List Nat} {a n : Nat} (h : L.all (fun t => decide (t < n)) = true) (k : tk_ L a = true) : tg_ a < n := of_decide_eq_true (List.all_eq_true.mp h _ (List.contains_iff_mem.mp k))
theorem tk_ar {L : List Nat} {a : Nat} (h : L.all (fun t => decide (26 ≤ t ∧ t < 39)) = true) (k : tk_ L a = true) : 26 ≤ tg_ a ∧ tg_ a < 39 := of_decide_eq_true (List.all_eq_true.mp h _ (List.contains_iff_mem.mp k))
theorem na_tk {G : AwH} {n t : Nat} (hn : n < 1024) (ht : t < 64) : tk_ [t] (na_ G n t) = true := by
  have h : tg_ (na_ G n t) = t := by unfold tg_ na_; omega
  unfold tk_
  rw [h]
  simp
