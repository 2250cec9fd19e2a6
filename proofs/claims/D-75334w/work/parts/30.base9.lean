/-! the parser as a machine -/
def ufI : Option Nat → Int32
  | none => -1
  | some k => nI k
theorem ufI_n {u : Option Nat} (h : ufI u = (-1)) (hu : ∀ k, u = some k → k < 1000) : u = none := by
  cases u with
  | none => rfl
  | some k =>
    exfalso
    have h1 := hu k rfl
    have := congrArg Int32.toInt (show nI k = -1 from h)
    rw [nI_toInt (by omega)] at this
    have h2 : (-1 : Int32).toInt = -1 := by decide
    omega
def opnS (a : Nat) : Nat := if a = 43 then 0 else if a = 45 then 1 else if a = 42 then 2 else if a = 94 then 3 else 4
/-- two values made one: the value, and where it didn't fit -/
def carB (p q r a k : Nat) (u : Option Nat) (M N : MV) : MV × Option Nat := match u with
  | some x => (M, some x)
  | none => match cmbS (opnS a) p q r M N with
    | some P => (P, none)
    | none => (M, some k)
def carP (p q r a k : Nat) (x : List MV × Option Nat) : List MV × Option Nat := if a = 110 then (match x.1 with
  | [] => x
  | M :: R => (trnS 8 p q r M :: R, x.2)) else (match x.1 with
  | N :: M :: R => ((carB p q r a k x.2 M N).1 :: R, (carB p q r a k x.2 M N).2)
  | _ => x)
def setP (p q r L : Nat) : List (Nat × Nat) → List MV × Option Nat → List (Nat × Nat) × List MV × Option Nat
  | [], x => ([], x)
  | (a, k) :: w, x => if a ≠ 40 ∧ L ≤ lvl a then setP p q r L w (carP p q r a k x) else ((a, k) :: w, x)
theorem carB_sm {p q r a k : Nat} {u : Option Nat} {M N : MV} (hn : p + q + r ≤ 5) (hM : MSm M) (hN : MSm N) : MSm (carB p q r a k u M N).1 := by
  unfold carB
  split
  · exact hM
  · split
    · rename_i P e; exact cmbS_sm hn hM hN e
    · exact hM
theorem carB_u {p q r a k : Nat} {u : Option Nat} {M N : MV} (hk : k < 1000) (hu : ∀ j, u = some j → j < 1000) : ∀ j, (carB p q r a k u M N).2 = some j → j < 1000 := by
  unfold carB
  intro j h
  split at h
  · exact hu j h
  · split at h
    · cases h
    · cases h; exact hk
/-- what the divisor of a fraction makes of a number -/
def divM (v : Nat) (M : MV) : MV := match scaS 1 (lN v) M with
  | some P => P
  | none => M
theorem numE2 (T : Nat → Nat) (ln l b : Nat) : numE T ln l b ≤ 2 := by
  unfold numE
  split
  · omega
  · split <;> omega
theorem numE_v {T : Nat → Nat} {ln l b : Nat} (h : numE T ln l b = 0) : l ≤ numV T ln b := by
  unfold numE at h
  split at h
  · cases h
  · split at h
    · cases h
    · rename_i c; unfold numV; omega
theorem lN_sm {v : Nat} (h : v ≤ 100000000) : sm8 (lN v) := by
  unfold sm8; rw [pk_lT (by omega)]; omega
theorem numM_z {v : Int64} : numM v 0 = 1 := rfl
theorem MSm_num {v : Nat} (h : v < 100000000) : MSm (numM (lN v)) := numM_sm (lN_sm (by omega))
/-- the name of a product of vectors: k digits from b on: the sign, the blade -/
def nmF (T : Nat → Nat) (p q r b : Nat) : Nat → Int32 × Nat
  | 0 => (nI 1, 0)
  | k + 1 => if 49 ≤ T (b + k) ∧ T (b + k) - 48 ≤ p + q + r then ((nmF T p q r b k).1 * sgS p q r (nmF T p q r b k).2 (2 ^ (T (b + k) - 48 - 1)), (nmF T p q r b k).2 ^^^ 2 ^ (T (b + k) - 48 - 1)) else nmF T p q r b k
/-- whether k digits are all vectors -/
def nmG (T : Nat → Nat) (n b : Nat) : Nat → Bool
  | 0 => true
  | k + 1 => nmG T n b k && decide (49 ≤ T (b + k) ∧ T (b + k) - 48 ≤ n)
def bldM (s : Int32) (b : Nat) : MV := fun i => if i = 0 then 1 else if i = b + 1 then s.toInt64 else 0
/-- what is wrong with a name at i (its letter): 0, or a code -/
def namE (T : Nat → Nat) (ln n i : Nat) : Nat := if dE T ln (i + 1) - (i + 1) = 0 then 1 else if T i = 101 then (if nmG T n (i + 1) (dE T ln (i + 1) - (i + 1)) = true ∧ dE T ln (i + 1) - (i + 1) ≤ 10 then 0 else 2) else (if dE T ln (i + 1) - (i + 1) ≤ 1 ∧ T (i + 1) - 48 < 8 then 0 else 2)
def namM (T : Nat → Nat) (ln p q r : Nat) (Ms : Nat → MV) (i : Nat) : MV := if T i = 101 then bldM (nmF T p q r (i + 1) (dE T ln (i + 1) - (i + 1))).1 (nmF T p q r (i + 1) (dE T ln (i + 1) - (i + 1))).2 else Ms (T (i + 1) - 48)
def s3 (s : Int32) : Prop := s = nI 1 ∨ s = -1 ∨ s = nI 0
theorem s3_mul {a b : Int32} (ha : s3 a) (hb : s3 b) : s3 (a * b) := by
  rcases ha with rfl | rfl | rfl <;> rcases hb with rfl | rfl | rfl <;> (unfold s3; decide)
theorem s3_if {c : Prop} [Decidable c] {a b : Int32} (ha : s3 a) (hb : s3 b) : s3 (if c then a else b) := by
  split
  · exact ha
  · exact hb
theorem sgM_3 (p q a b : Nat) : ∀ k, s3 (sgnM p q a b k)
  | 0 => s3_if (Or.inl rfl) (Or.inr (Or.inl rfl))
  | k + 1 => s3_if (s3_mul (sgM_3 p q a b k) (s3_if (Or.inl rfl) (s3_if (Or.inr (Or.inl rfl)) (Or.inr (Or.inr rfl))))) (sgM_3 p q a b k)
theorem sgS_3 (p q r a b : Nat) : s3 (sgS p q r a b) := sgM_3 p q a b _
theorem nmF_ok {T : Nat → Nat} {p q r b : Nat} : ∀ k, s3 (nmF T p q r b k).1 ∧ (nmF T p q r b k).2 < 2 ^ (p + q + r)
  | 0 => ⟨Or.inl rfl, Nat.two_pow_pos _⟩
  | k + 1 => by
    have ih := nmF_ok (T := T) (p := p) (q := q) (r := r) (b := b) k
    unfold nmF
    split
    · rename_i c
      exact ⟨s3_mul ih.1 (sgS_3 ..), Nat.xor_lt_two_pow ih.2 (Nat.pow_lt_pow_right (by decide) (by omega))⟩
    · exact ih
theorem bldM_sm {s : Int32} {b : Nat} (h : s3 s) : MSm (bldM s b) := by
  refine ⟨by show (1 : Int64).toInt > 0; decide, by show (1 : Int64).toInt ≤ _; decide, fun j _ => ?_⟩
  show sm8 (if j + 1 = 0 then 1 else if j + 1 = b + 1 then s.toInt64 else 0)
  rw [if_neg (by omega)]
  split
  · rcases h with e | e | e <;> rw [e] <;> (unfold sm8; decide)
  · unfold sm8; decide
