/-! words of the specification: numbers, common divisors, multivectors (a multivector M: M 0 the denominator, M (b + 1) the integer of the basis blade b) -/
abbrev MV : Type := Nat → Int64
/-- a truth value as an int -/
def bI (b : Bool) : Int32 := if b then nI 1 else nI 0
theorem bI_z (b : Bool) : narrow .boolean (.int (bI b)) = .int (bI b) := by cases b <;> rfl
theorem bI_f (b : Bool) : fits .boolean (.int (bI b)) = true := by cases b <;> rfl
theorem bI_0 {b : Bool} (h : bI b = nI 0) : b = false := by cases b; rfl; exact absurd h (by decide)
theorem bI_1 {b : Bool} (h : ¬ bI b = nI 0) : b = true := by cases b; exact absurd rfl h; rfl
theorem bI_t : bI true = nI 1 := rfl
theorem bI_n : bI false = nI 0 := rfl
def inB (v lo hi : Int32) : Bool := decide (lo ≤ v) && decide (v ≤ hi)
/-- how many bits are set (below 64) -/
def popc (a : Nat) : Nat := a % 2 + a / 2 % 2 + a / 4 % 2 + a / 8 % 2 + a / 16 % 2 + a / 32 % 2
theorem popc_s : ∀ x, x < 64 → 0 < x → (x &&& (x - 1)) < x ∧ popc (x &&& (x - 1)) + 1 = popc x := by decide +kernel
theorem popc_le : ∀ x, x < 64 → popc x ≤ 6 := by decide +kernel
theorem popc_le5 : ∀ x, x < 32 → popc x ≤ 5 := by decide +kernel
/-- the size of a long -/
def aN (v : Int64) : Nat := v.toInt.natAbs
def absL (v : Int64) : Int64 := if v < 0 then -v else v
theorem aN_lt {v : Int64} (h : v ≠ Int64.minValue) : aN v < 2 ^ 63 := by
  have h1 := Int64.le_toInt v
  have h2 := Int64.toInt_lt v
  have h3 : v.toInt ≠ Int64.minValue.toInt := fun q => h (Int64.toInt_inj.mp q)
  have h4 : Int64.minValue.toInt = -9223372036854775808 := by decide
  unfold aN
  omega
theorem lN_min {n : Nat} (h : n < 2 ^ 63) : lN n ≠ Int64.minValue := by
  intro q
  have h1 := pk_lT h
  rw [q] at h1
  have h4 : Int64.minValue.toInt = -9223372036854775808 := by decide
  omega
theorem absL_lN {v : Int64} (h : v ≠ Int64.minValue) : absL v = lN (aN v) := by
  have h0 := aN_lt h
  have h1 := Int64.le_toInt v
  have h2 := Int64.toInt_lt v
  have h3 : v.toInt ≠ Int64.minValue.toInt := fun q => h (Int64.toInt_inj.mp q)
  have h4 : Int64.minValue.toInt = -9223372036854775808 := by decide
  apply Int64.toInt_inj.mp
  rw [pk_lT h0]
  unfold absL aN
  by_cases hv : v < 0
  · rw [if_pos hv]
    have h5 : v.toInt < 0 := by
      have := Int64.lt_iff_toInt_lt.mp hv
      simpa using this
    rw [Int64.toInt_neg, Int.bmod_eq_of_le] <;> omega
  · rw [if_neg hv]
    have h5 : ¬ v.toInt < 0 := fun q => hv (Int64.lt_iff_toInt_lt.mpr (by simpa using q))
    omega
def gcdL (a b : Int64) : Int64 := lN (Nat.gcd (aN a) (aN b))
theorem gcdL_comm (a b : Int64) : gcdL a b = gcdL b a := by unfold gcdL; rw [Nat.gcd_comm]
/-- the common divisor of u and of the first n places of f -/
def gA (u : Int64) (f : Nat → Int64) : Nat → Nat
  | 0 => aN u
  | n + 1 => Nat.gcd (gA u f n) (aN (f n))
theorem gA_dvd (u : Int64) (f : Nat → Int64) : ∀ n, gA u f n ∣ aN u
  | 0 => Nat.dvd_refl _
  | n + 1 => Nat.dvd_trans (Nat.gcd_dvd_left _ _) (gA_dvd u f n)
theorem gA_pos {u : Int64} (h : 0 < aN u) (f : Nat → Int64) (n : Nat) : 0 < gA u f n := Nat.pos_of_dvd_of_pos (gA_dvd u f n) h
theorem gA_le {u : Int64} (h : 0 < aN u) (f : Nat → Int64) (n : Nat) : gA u f n ≤ aN u := Nat.le_of_dvd h (gA_dvd u f n)
theorem gA_congr {u : Int64} {f g : Nat → Int64} : ∀ n, (∀ j, j < n → f j = g j) → gA u f n = gA u g n
  | 0, _ => rfl
  | n + 1, h => by
    show Nat.gcd _ _ = Nat.gcd _ _
    rw [gA_congr n (fun j hj => h j (by omega)), h n (by omega)]
theorem aN_lN {n : Nat} (h : n < 2 ^ 63) : aN (lN n) = n := by unfold aN; rw [pk_lT h]; rfl
def smallB (v : Int64) : Bool := decide (-100000000 ≤ v) && decide (v ≤ 100000000)
/-- the prefix of the test that all fits -/
def pfB (u : Int64) (f : Nat → Int64) (n : Nat) : Bool := smallB u && (List.range n).all (fun j => smallB (f j))
theorem pfB_s (u : Int64) (f : Nat → Int64) (n : Nat) : pfB u f (n + 1) = (pfB u f n && smallB (f n)) := by
  unfold pfB
  rw [List.range_succ, List.all_append]
  simp [Bool.and_assoc]
theorem pfB_mono {u : Int64} {f : Nat → Int64} {n m : Nat} (h : pfB u f n = false) (hm : n ≤ m) : pfB u f m = false := by
  induction hm with
  | refl => exact h
  | step _ ih => rw [pfB_s, ih]; rfl
/-- a row over a positive denominator in its common form, if that fits -/
def fitS (u : Int64) (f : Nat → Int64) : Option MV :=
  if pfB (u / lN (gA u f 32)) (fun j => f j / lN (gA u f 32)) 32 = true then some (fun i => if i = 0 then u / lN (gA u f 32) else f (i - 1) / lN (gA u f 32)) else none
/-- a slot of the model's row holds a multivector -/
def Hold (fA : Nat → Int64) (k : Nat) (M : MV) : Prop := ∀ i, i < 33 → fA (33 * k + i) = M i
def Same (fA fA' : Nat → Int64) (k : Nat) : Prop := ∀ j, (j < 33 * k ∨ 33 * k + 33 ≤ j) → fA' j = fA j
def PutPost (fA : Nat → Int64) (k : Nat) (res : Option MV) (r : Int32) (fA' : Nat → Int64) : Prop := match res with
  | none => r = nI 0 ∧ fA' = fA
  | some M => r = nI 1 ∧ Hold fA' k M ∧ Same fA fA' k
/-- n places from b on written with v -/
def wrS (f : Nat → Int64) (b n : Nat) (v : Nat → Int64) : Nat → Int64 := fun j => if b ≤ j ∧ j < b + n then v (j - b) else f j
theorem wr_0 (f : Nat → Int64) (b : Nat) (v : Nat → Int64) : wrS f b 0 v = f := by
  funext j; unfold wrS; rw [if_neg (by omega)]
theorem wr_s {f v : Nat → Int64} {b n k : Nat} {x : Int64} (hk : k = b + n) (hx : x = v n) : vp_updL (wrS f b n v) k x = wrS f b (n + 1) v := by
  subst hk hx
  funext j
  unfold vp_updL wrS
  by_cases h : j = b + n
  · subst h
    rw [if_pos rfl, if_pos (by omega), Nat.add_sub_cancel_left]
  · rw [if_neg h]
    by_cases h2 : b ≤ j ∧ j < b + n
    · rw [if_pos h2, if_pos (by omega)]
    · rw [if_neg h2, if_neg (by omega)]
theorem wr_in {f v : Nat → Int64} {b n j : Nat} (h : b ≤ j) (h2 : j < b + n) : wrS f b n v j = v (j - b) := by unfold wrS; rw [if_pos ⟨h, h2⟩]
theorem wr_at {f v : Nat → Int64} {b n j : Nat} (h2 : j < n) : wrS f b n v (b + j) = v j := by rw [wr_in (by omega) (by omega), Nat.add_sub_cancel_left]
theorem wr_out {f v : Nat → Int64} {b n j : Nat} (h : j < b ∨ b + n ≤ j) : wrS f b n v j = f j := by unfold wrS; rw [if_neg (by omega)]
theorem cellL_ext (cA : ClassId) {n : Nat} {f g : Nat → Int64} (h : ∀ j, j < n → f j = g j) : vp_cell cA (n, .inr (.inl f)) = vp_cell cA (n, .inr (.inl g)) := by
  show arrV cA n (fun j => .long (f j)) = arrV cA n (fun j => .long (g j))
  unfold arrV
  congr 1
  apply Array.ext
  · simp
  · intro i h1 h2
    simp at h1 ⊢
    rw [h i (by omega)]
theorem cellI_ext (cA : ClassId) {n : Nat} {f g : Nat → Int32} (h : ∀ j, j < n → f j = g j) : vp_cell cA (n, .inl f) = vp_cell cA (n, .inl g) := by
  show arrV cA n (fun j => .int (f j)) = arrV cA n (fun j => .int (g j))
  unfold arrV
  congr 1
  apply Array.ext
  · simp
  · intro i h1 h2
    simp at h1 ⊢
    rw [h i (by omega)]
/-- a cell of the list said in another way -/
theorem P_to {D : va_G} {ws : va_W} {H : Heap} (hP : va_P D vwCl ws H) (q0 : Nat) {a : Nat} {e e' : va_E} (h : ws[q0]? = some (a, e)) (he : va_at D vwCl (a, e) H → va_at D vwCl (a, e') H) : va_P D vwCl (ws.set q0 (a, e')) H := by
  have hl := (List.getElem?_eq_some_iff.mp h).1
  intro k q hk
  by_cases hkp : k = q0
  · subst hkp
    rw [List.getElem?_set_self hl] at hk
    cases hk
    exact he (hP _ _ h)
  · rw [List.getElem?_set_ne (Ne.symm hkp)] at hk
    exact hP k q hk
theorem P_L {D : va_G} {ws : va_W} {H : Heap} (hP : va_P D vwCl ws H) (q0 : Nat) {a : Nat} {cA : ClassId} {n : Nat} {f : Nat → Int64} (g : Nat → Int64) (h : ws[q0]? = some (a, .inl (cA, n, .inr (.inl f)))) (he : ∀ j, j < n → f j = g j) : va_P D vwCl (ws.set q0 (a, .inl (cA, n, .inr (.inl g)))) H :=
  P_to hP q0 h (fun z => by rw [show va_at D vwCl (a, .inl (cA, n, .inr (.inl g))) H = (H[a]? = some (vp_cell cA (n, .inr (.inl g)))) from rfl, ← cellL_ext cA he]; exact z)
/-- the model's object, and the part of its world that most methods use -/
def mFs (o : Nat → Nat) (th : Int32) (p q r : Nat) (mu : Int64) (Z : Nat → Int32) : List Value := [.int th, .int (nI p), .int (nI q), .int (nI r), .ref (o 1), .ref (o 2), .ref (o 3), .ref (o 4), .ref (o 5), .ref (o 6), .long mu, .ref (o 7), .int (Z 12), .int (Z 13), .int (Z 14), .int (Z 15), .int (Z 16), .ref (o 8), .ref (o 9), .int (Z 19), .int (Z 20), .int (Z 21), .int (Z 22), .int (Z 23), .int (Z 24), .ref (o 10), .int (Z 26)]
