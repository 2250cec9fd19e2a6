/-! what the operations compute: products, sums, multiples, turned values -/
def redS (u : Int64) (f : Nat → Int64) : MV := fun i => if i = 0 then u / lN (gA u f 32) else f (i - 1) / lN (gA u f 32)
def fitB (u : Int64) (f : Nat → Int64) : Bool := pfB (u / lN (gA u f 32)) (fun j => f j / lN (gA u f 32)) 32
theorem fitS_eq (u : Int64) (f : Nat → Int64) : fitS u f = if fitB u f = true then some (redS u f) else none := rfl
theorem fitS_t {u : Int64} {f : Nat → Int64} (h : fitB u f = true) : fitS u f = some (redS u f) := by rw [fitS_eq, if_pos h]
theorem fitS_f {u : Int64} {f : Nat → Int64} (h : fitB u f = false) : fitS u f = none := by rw [fitS_eq, h]; rfl
theorem hold_at {fA : Nat → Int64} {k i n : Nat} {M : MV} (h : Hold fA k M) (hi : i < 33) (hn : n = 33 * k + i) : fA n = M i := by rw [hn]; exact h i hi
/-- small: all that a register holds -/
def MSm (M : MV) : Prop := 0 < (M 0).toInt ∧ (M 0).toInt ≤ 100000000 ∧ ∀ j, j < 32 → -100000000 ≤ (M (j + 1)).toInt ∧ (M (j + 1)).toInt ≤ 100000000
/-- nothing beyond the blades of the algebra -/
def MSp (W : Nat) (M : MV) : Prop := ∀ j, W ≤ j → j < 32 → M (j + 1) = 0
theorem smallB_iff {v : Int64} : smallB v = true ↔ (-100000000 ≤ v.toInt ∧ v.toInt ≤ 100000000) := by
  unfold smallB
  rw [Bool.and_eq_true, decide_eq_true_iff, decide_eq_true_iff, Int64.le_iff_toInt_le, Int64.le_iff_toInt_le]
  rw [show (-100000000 : Int64).toInt = -100000000 from by decide, show (100000000 : Int64).toInt = 100000000 from by decide]
theorem ne_min_of {v : Int64} {B : Int} (h : -B ≤ v.toInt ∧ v.toInt ≤ B) (hB : B < 9223372036854775808) : v ≠ Int64.minValue := by
  intro q
  have h4 : Int64.minValue.toInt = -9223372036854775808 := by decide
  rw [q] at h
  omega
theorem bm64 {x : Int} (h : -9223372036854775808 ≤ x ∧ x < 9223372036854775808) : x.bmod (2 ^ 64) = x := Int.bmod_eq_of_le (by omega) (by omega)
theorem add_b {x y : Int64} {A B : Int} (hx : -A ≤ x.toInt ∧ x.toInt ≤ A) (hy : -B ≤ y.toInt ∧ y.toInt ≤ B) (h : A + B < 9223372036854775808) : (x + y).toInt = x.toInt + y.toInt ∧ -(A + B) ≤ (x + y).toInt ∧ (x + y).toInt ≤ A + B := by
  have e : (x + y).toInt = x.toInt + y.toInt := by rw [Int64.toInt_add, bm64]; omega
  rw [e]; omega
theorem imul_b {x y A B : Int} (hx : -A ≤ x ∧ x ≤ A) (hy : -B ≤ y ∧ y ≤ B) : -(A * B) ≤ x * y ∧ x * y ≤ A * B := by
  have h1 : x.natAbs ≤ A.natAbs := by omega
  have h2 : y.natAbs ≤ B.natAbs := by omega
  have hA : 0 ≤ A := by omega
  have hB : 0 ≤ B := by omega
  have h3 : (x * y).natAbs ≤ (A * B).natAbs := by rw [Int.natAbs_mul, Int.natAbs_mul]; exact Nat.mul_le_mul h1 h2
  have h4 : 0 ≤ A * B := Int.mul_nonneg hA hB
  omega
theorem mul_b {x y : Int64} {A B : Int} (hx : -A ≤ x.toInt ∧ x.toInt ≤ A) (hy : -B ≤ y.toInt ∧ y.toInt ≤ B) (h : A * B < 9223372036854775808) : (x * y).toInt = x.toInt * y.toInt ∧ -(A * B) ≤ (x * y).toInt ∧ (x * y).toInt ≤ A * B := by
  have h1 := imul_b hx hy
  have e : (x * y).toInt = x.toInt * y.toInt := by rw [Int64.toInt_mul, bm64]; omega
  rw [e]; exact ⟨rfl, h1⟩
theorem i2l_toInt (v : Int32) : v.toInt64.toInt = v.toInt := Int32.toInt_toInt64 v
/-- signs are 1, 0 or -1 -/
def Sg (v : Int32) : Prop := v = nI 1 ∨ v = (-1) ∨ v = nI 0
theorem Sg.b {v : Int32} (h : Sg v) : -1 ≤ v.toInt64.toInt ∧ v.toInt64.toInt ≤ 1 := by rcases h with rfl | rfl | rfl <;> decide
theorem Sg.mul {x y : Int32} (h : Sg x) (h2 : Sg y) : Sg (x * y) := by
  rcases h with rfl | rfl | rfl <;> rcases h2 with rfl | rfl | rfl <;> first | exact Or.inl (by decide) | exact Or.inr (Or.inl (by decide)) | exact Or.inr (Or.inr (by decide))
theorem ordS_sg (a b : Nat) : Sg (ordS a b) := by unfold ordS; split; exact Or.inl rfl; exact Or.inr (Or.inl rfl)
theorem sqV_sg (p q k : Nat) : Sg (sqV p q k) := by unfold sqV; split; exact Or.inl rfl; split; exact Or.inr (Or.inl rfl); exact Or.inr (Or.inr rfl)
theorem sgnM_sg (p q a b : Nat) : ∀ k, Sg (sgnM p q a b k)
  | 0 => ordS_sg a b
  | k + 1 => by
    show Sg (if (a &&& b) / 2 ^ k &&& 1 = 1 then sgnM p q a b k * sqV p q k else sgnM p q a b k)
    split
    · exact (sgnM_sg p q a b k).mul (sqV_sg p q k)
    · exact sgnM_sg p q a b k
theorem sgS_sg (p q r a b : Nat) : Sg (sgS p q r a b) := sgnM_sg _ _ _ _ _
/-- a term of a product: of the blade a of the one, at the place j -/
def mt (kd p q r : Nat) (M N : MV) (a j : Nat) : Int64 := if takB kd a (a ^^^ j) = true then (sgS p q r a (a ^^^ j)).toInt64 * M (a + 1) * N ((a ^^^ j) + 1) else 0
def mulA (kd p q r : Nat) (M N : MV) : Nat → Nat → Int64
  | 0 => fun _ => 0
  | a + 1 => fun j => mulA kd p q r M N a j + (if a ^^^ j < 2 ^ (p + q + r) then mt kd p q r M N a j else 0)
def mulB (kd p q r : Nat) (M N : MV) (a b : Nat) : Nat → Int64 := fun j => mulA kd p q r M N a j + (if a ^^^ j < b then mt kd p q r M N a j else 0)
def mulR (kd p q r : Nat) (M N : MV) : Nat → Int64 := mulA kd p q r M N (2 ^ (p + q + r))
def mulS (kd p q r : Nat) (M N : MV) : Option MV := fitS (M 0 * N 0) (mulR kd p q r M N)
theorem mulB_0 (kd p q r : Nat) (M N : MV) (a : Nat) : mulB kd p q r M N a 0 = mulA kd p q r M N a := by
  funext j; unfold mulB; rw [if_neg (Nat.not_lt_zero _), Int64.add_zero]
theorem mulB_W (kd p q r : Nat) (M N : MV) (a : Nat) : mulB kd p q r M N a (2 ^ (p + q + r)) = mulA kd p q r M N (a + 1) := rfl
theorem xor_cancel (a b : Nat) : a ^^^ (a ^^^ b) = b := by rw [← Nat.xor_assoc, Nat.xor_self, Nat.zero_xor]
theorem mulB_s {kd p q r : Nat} {M N : MV} {a b : Nat} (h : takB kd a b = true) : vp_updL (mulB kd p q r M N a b) (a ^^^ b) (mulB kd p q r M N a b (a ^^^ b) + (sgS p q r a b).toInt64 * M (a + 1) * N (b + 1)) = mulB kd p q r M N a (b + 1) := by
  funext j
  unfold vp_updL
  by_cases hj : j = a ^^^ b
  · subst hj
    rw [if_pos rfl]
    unfold mulB mt
    rw [xor_cancel, if_neg (Nat.lt_irrefl b), if_pos (Nat.lt_succ_self b), if_pos h, Int64.add_zero]
  · rw [if_neg hj]
    unfold mulB
    have hne : a ^^^ j ≠ b := fun e => hj (by rw [← e, xor_cancel])
    by_cases hlt : a ^^^ j < b
    · rw [if_pos hlt, if_pos (by omega)]
    · rw [if_neg hlt, if_neg (by omega)]
theorem mulB_n {kd p q r : Nat} {M N : MV} {a b : Nat} (h : mt kd p q r M N a (a ^^^ b) = 0) : mulB kd p q r M N a b = mulB kd p q r M N a (b + 1) := by
  funext j
  unfold mulB
  by_cases hj : j = a ^^^ b
  · subst hj
    rw [h, xor_cancel, if_neg (Nat.lt_irrefl b), if_pos (Nat.lt_succ_self b)]
  · have hne : a ^^^ j ≠ b := fun e => hj (by rw [← e, xor_cancel])
    by_cases hlt : a ^^^ j < b
    · rw [if_pos hlt, if_pos (by omega)]
    · rw [if_neg hlt, if_neg (by omega)]
theorem mt_a {kd p q r : Nat} {M N : MV} {a b : Nat} (h : M (a + 1) = 0) : mt kd p q r M N a (a ^^^ b) = 0 := by
  unfold mt; rw [h, Int64.mul_zero, Int64.zero_mul]; split <;> rfl
theorem mt_b {kd p q r : Nat} {M N : MV} {a b : Nat} (h : N (b + 1) = 0) : mt kd p q r M N a (a ^^^ b) = 0 := by
  unfold mt; rw [xor_cancel, h, Int64.mul_zero]; split <;> rfl
theorem mt_t {kd p q r : Nat} {M N : MV} {a b : Nat} (h : takB kd a b = false) : mt kd p q r M N a (a ^^^ b) = 0 := by
  unfold mt; rw [xor_cancel, h]; rfl
theorem mulB_a0 {kd p q r : Nat} {M N : MV} {a : Nat} (h : M (a + 1) = 0) (b : Nat) : mulB kd p q r M N a b = mulA kd p q r M N a := by
  funext j; unfold mulB
  have : mt kd p q r M N a j = 0 := by
    have := mt_a (kd := kd) (p := p) (q := q) (r := r) (N := N) (b := a ^^^ j) h
    rwa [xor_cancel] at this
  rw [this, ite_self, Int64.add_zero]
theorem mt_bd {kd p q r : Nat} {M N : MV} (hM : MSm M) (hN : MSm N) {a j : Nat} (ha : a < 32) (hj : a ^^^ j < 32) : -10000000000000000 ≤ (mt kd p q r M N a j).toInt ∧ (mt kd p q r M N a j).toInt ≤ 10000000000000000 := by
  unfold mt
  split
  · have h1 := (sgS_sg p q r a (a ^^^ j)).b
    have h2 := hM.2.2 a ha
    have h3 := hN.2.2 (a ^^^ j) hj
    have h4 := mul_b (A := 1) (B := 100000000) h1 h2 (by decide)
    have h5 := mul_b (A := 1 * 100000000) (B := 100000000) h4.2 h3 (by decide)
    exact h5.2
  · decide
theorem mulA_bd {kd p q r : Nat} {M N : MV} (hM : MSm M) (hN : MSm N) (hn : p + q + r ≤ 5) (j : Nat) : ∀ a : Nat, a ≤ 32 → -((a : Int) * 10000000000000000) ≤ (mulA kd p q r M N a j).toInt ∧ (mulA kd p q r M N a j).toInt ≤ (a : Int) * 10000000000000000
  | 0, _ => by show _ ≤ (0 : Int64).toInt ∧ (0 : Int64).toInt ≤ _; simp
  | a + 1, h => by
    have h1 := mulA_bd (kd := kd) hM hN hn j a (by omega)
    have h5 := pow5 hn
    show _ ≤ (mulA kd p q r M N a j + (if a ^^^ j < 2 ^ (p + q + r) then mt kd p q r M N a j else 0)).toInt ∧ (mulA kd p q r M N a j + (if a ^^^ j < 2 ^ (p + q + r) then mt kd p q r M N a j else 0)).toInt ≤ _
    have h2 : -10000000000000000 ≤ (if a ^^^ j < 2 ^ (p + q + r) then mt kd p q r M N a j else 0).toInt ∧ (if a ^^^ j < 2 ^ (p + q + r) then mt kd p q r M N a j else 0).toInt ≤ 10000000000000000 := by
      split
      · exact mt_bd hM hN (by omega) (by omega)
      · decide
    have h3 := add_b h1 h2 (by omega)
    omega
theorem mulR_bd {kd p q r : Nat} {M N : MV} (hM : MSm M) (hN : MSm N) (hn : p + q + r ≤ 5) (j : Nat) : -320000000000000000 ≤ (mulR kd p q r M N j).toInt ∧ (mulR kd p q r M N j).toInt ≤ 320000000000000000 := by
  have h5 := pow5 hn
  have h := mulA_bd (kd := kd) hM hN hn j (2 ^ (p + q + r)) h5.1
  have h6 : ((2 ^ (p + q + r) : Nat) : Int) ≤ 32 := by omega
  unfold mulR
  omega
theorem mulR_nm {kd p q r : Nat} {M N : MV} (hM : MSm M) (hN : MSm N) (hn : p + q + r ≤ 5) (j : Nat) : mulR kd p q r M N j ≠ Int64.minValue := ne_min_of (mulR_bd hM hN hn j) (by decide)
theorem und_bd {M N : MV} (hM : MSm M) (hN : MSm N) : 0 < (M 0 * N 0).toInt ∧ (M 0 * N 0).toInt ≤ 10000000000000000 := by
  obtain ⟨a1, a2, -⟩ := hM
  obtain ⟨b1, b2, -⟩ := hN
  have h := mul_b (x := M 0) (y := N 0) (A := 100000000) (B := 100000000) ⟨by omega, a2⟩ ⟨by omega, b2⟩ (by decide)
  have h7 : 0 < (M 0).toInt * (N 0).toInt := Int.mul_pos a1 b1
  omega
theorem aN_pos {v : Int64} (h : 0 < v.toInt) : 0 < aN v := by unfold aN; omega
/-- the sum, or the difference -/
def addR (s : Int32) (M N : MV) : Nat → Int64 := fun j => M (j + 1) * N 0 + s.toInt64 * N (j + 1) * M 0
def addS (s : Int32) (M N : MV) : Option MV := fitS (M 0 * N 0) (addR s M N)
theorem addR_nm {s : Int32} (hs : Sg s) {M N : MV} (hM : MSm M) (hN : MSm N) {j : Nat} (hj : j < 32) : addR s M N j ≠ Int64.minValue := by
  obtain ⟨a1, a2, a3⟩ := hM
  obtain ⟨b1, b2, b3⟩ := hN
  have h1 := mul_b (x := M (j + 1)) (y := N 0) (A := 100000000) (B := 100000000) (a3 j hj) ⟨by omega, b2⟩ (by decide)
  have h2 := mul_b (x := s.toInt64) (y := N (j + 1)) (A := 1) (B := 100000000) hs.b (b3 j hj) (by decide)
  have h3 := mul_b (x := s.toInt64 * N (j + 1)) (y := M 0) (A := 1 * 100000000) (B := 100000000) h2.2 ⟨by omega, a2⟩ (by decide)
  have h4 := add_b h1.2 h3.2 (by decide)
  exact ne_min_of h4.2 (by decide)
/-- times a fraction -/
def sgL (v : Int64) : Int64 := if v < 0 then -1 else 1
theorem sgL_b (v : Int64) : -1 ≤ (sgL v).toInt ∧ (sgL v).toInt ≤ 1 := by unfold sgL; split <;> decide
theorem sgL_pos {v : Int64} (h : v ≠ 0) : 0 < v.toInt * (sgL v).toInt := by
  have h0 : v.toInt ≠ 0 := fun e => h (Int64.toInt_inj.mp e)
  unfold sgL
  by_cases c : v < 0
  · have h5 : v.toInt < 0 := by simpa using Int64.lt_iff_toInt_lt.mp c
    rw [if_pos c, show (-1 : Int64).toInt = -1 from by decide]; omega
  · have h5 : ¬ v.toInt < 0 := fun q => c (Int64.lt_iff_toInt_lt.mpr (by simpa using q))
    rw [if_neg c, show (1 : Int64).toInt = 1 from by decide]; omega
def scaR (top bot : Int64) (M : MV) : Nat → Int64 := fun j => M (j + 1) * top * sgL bot
def scaU (bot : Int64) (M : MV) : Int64 := M 0 * bot * sgL bot
def scaS (top bot : Int64) (M : MV) : Option MV := fitS (scaU bot M) (scaR top bot M)
def sm8 (v : Int64) : Prop := -100000000 ≤ v.toInt ∧ v.toInt ≤ 100000000
theorem scaR_nm {top bot : Int64} (ht : sm8 top) {M : MV} (hM : MSm M) {j : Nat} (hj : j < 32) : scaR top bot M j ≠ Int64.minValue := by
  have h1 := mul_b (A := 100000000) (B := 100000000) (hM.2.2 j hj) ht (by decide)
  have h2 := mul_b (A := 100000000 * 100000000) (B := 1) h1.2 (sgL_b bot) (by decide)
  exact ne_min_of h2.2 (by decide)
theorem scaU_bd {bot : Int64} (hb : sm8 bot) (h0 : bot ≠ 0) {M : MV} (hM : MSm M) : 0 < (scaU bot M).toInt ∧ (scaU bot M).toInt ≤ 10000000000000000 := by
  obtain ⟨a1, a2, -⟩ := hM
  have h1 := mul_b (x := M 0) (A := 100000000) (B := 100000000) ⟨by omega, a2⟩ hb (by decide)
  have h2 := mul_b (A := 100000000 * 100000000) (B := 1) h1.2 (sgL_b bot) (by decide)
  have h3 := sgL_pos h0
  have h4 : (scaU bot M).toInt = (M 0).toInt * (bot.toInt * (sgL bot).toInt) := by
    show (M 0 * bot * sgL bot).toInt = _
    rw [h2.1, h1.1, Int.mul_assoc]
  have h5 : 0 < (M 0).toInt * (bot.toInt * (sgL bot).toInt) := Int.mul_pos a1 h3
  have h6 := h2.2.2
  show 0 < (scaU bot M).toInt ∧ (M 0 * bot * sgL bot).toInt ≤ _
  omega
/-- by which a term of a grade is multiplied -/
def turS (op g : Nat) : Int32 := if op = 0 then (if g = 2 ∨ g = 3 then (-1) else nI 1) else if op = 1 then (if g % 2 = 1 then (-1) else nI 1) else if op = 2 then (if g = 1 ∨ g = 2 ∨ g = 5 then (-1) else nI 1) else if op = 6 then (if g % 2 = 0 then nI 1 else nI 0) else if op = 7 then (if g % 2 = 1 then nI 1 else nI 0) else (-1)
theorem turS_sg (op g : Nat) : Sg (turS op g) := by
  unfold turS
  repeat' split
  all_goals first | exact Or.inl rfl | exact Or.inr (Or.inl rfl) | exact Or.inr (Or.inr rfl)
def fullN (p q r : Nat) : Nat := 2 ^ (p + q + r) - 1
/-- the sign and the place from which a turned value takes its term -/
def trnG (op p q r j : Nat) : Int32 := if op = 3 then ordS (fullN p q r ^^^ j) j else if op = 4 then ordS j (fullN p q r ^^^ j) else if op = 5 then sgS p q r (fullN p q r) (fullN p q r) * sgS p q r (fullN p q r ^^^ j) (fullN p q r) else turS op (popc j)
def trnI (op p q r j : Nat) : Nat := if op = 3 ∨ op = 4 ∨ op = 5 then fullN p q r ^^^ j else j
def trnR (op p q r : Nat) (M : MV) : Nat → Int64 := fun j => if j < 2 ^ (p + q + r) then (trnG op p q r j).toInt64 * M (trnI op p q r j + 1) else 0
def trnP (op p q r : Nat) (M : MV) (a : Nat) : Nat → Int64 := fun j => if j < 2 ^ (p + q + r) ∧ trnI op p q r j < a then (trnG op p q r j).toInt64 * M (trnI op p q r j + 1) else 0
def trnS (op p q r : Nat) (M : MV) : MV := redS (M 0) (trnR op p q r M)
theorem trnP_0 (op p q r : Nat) (M : MV) : trnP op p q r M 0 = fun _ => 0 := by funext j; unfold trnP; rw [if_neg (by omega)]
theorem full_xor {p q r a : Nat} (hn : p + q + r ≤ 5) (ha : a < 2 ^ (p + q + r)) : fullN p q r ^^^ a < 2 ^ (p + q + r) := Nat.xor_lt_two_pow (by unfold fullN; have := Nat.two_pow_pos (p + q + r); omega) ha
theorem trnI_lt {op p q r j : Nat} (hn : p + q + r ≤ 5) (hj : j < 2 ^ (p + q + r)) : trnI op p q r j < 2 ^ (p + q + r) := by
  unfold trnI; split
  · exact full_xor hn hj
  · exact hj
theorem trnP_W {op p q r : Nat} (hn : p + q + r ≤ 5) (M : MV) : trnP op p q r M (2 ^ (p + q + r)) = trnR op p q r M := by
  funext j; unfold trnP trnR
  by_cases h : j < 2 ^ (p + q + r)
  · rw [if_pos ⟨h, trnI_lt hn h⟩, if_pos h]
  · rw [if_neg (fun q => h q.1), if_neg h]
theorem trnI_i (op p q r j : Nat) : trnI op p q r (trnI op p q r j) = j := by
  unfold trnI
  split
  · exact xor_cancel _ _
  · rfl
theorem trnP_s {op p q r : Nat} (hn : p + q + r ≤ 5) {M : MV} {a k : Nat} (ha : a < 2 ^ (p + q + r)) (hk : trnI op p q r a = k) {x : Int64} (hx : x = (trnG op p q r k).toInt64 * M (a + 1)) : vp_updL (trnP op p q r M a) k x = trnP op p q r M (a + 1) := by
  subst hk hx
  funext j
  unfold vp_updL
  by_cases hj : j = trnI op p q r a
  · subst hj
    rw [if_pos rfl]
    unfold trnP
    rw [trnI_i, if_pos ⟨trnI_lt hn ha, Nat.lt_succ_self a⟩]
  · rw [if_neg hj]
    have hne : trnI op p q r j ≠ a := fun e => hj (by rw [← e, trnI_i])
    unfold trnP
    by_cases h1 : j < 2 ^ (p + q + r) ∧ trnI op p q r j < a
    · rw [if_pos h1, if_pos ⟨h1.1, by omega⟩]
    · rw [if_neg h1, if_neg (by omega)]
theorem trnG_sg (op p q r j : Nat) : Sg (trnG op p q r j) := by
  unfold trnG
  repeat' split
  · exact ordS_sg _ _
  · exact ordS_sg _ _
  · exact (sgS_sg _ _ _ _ _).mul (sgS_sg _ _ _ _ _)
  · exact turS_sg _ _
theorem trnR_bd {op p q r : Nat} (hn : p + q + r ≤ 5) {M : MV} (hM : MSm M) (j : Nat) : sm8 (trnR op p q r M j) := by
  unfold trnR
  split
  · rename_i h
    have h5 := pow5 hn
    have h1 := trnI_lt (op := op) hn h
    have h2 := mul_b (A := 1) (B := 100000000) (trnG_sg op p q r j).b (hM.2.2 _ (by omega : trnI op p q r j < 32)) (by decide)
    exact h2.2
  · unfold sm8; decide
/-- all that is small fits -/
theorem div_small {x : Int64} {B : Int} (hx : -B ≤ x.toInt ∧ x.toInt ≤ B) (hB : B < 9223372036854775808) {g : Nat} (hg : 0 < g) (hg2 : g < 2 ^ 63) : -B ≤ (x / lN g).toInt ∧ (x / lN g).toInt ≤ B := by
  rw [Int64.toInt_div_of_ne_left _ _ (ne_min_of hx hB), pk_lT hg2]
  have h := Int.natAbs_tdiv_le_natAbs x.toInt (g : Int)
  omega
theorem div_pos' {u : Int64} (h : 0 < u.toInt) {g : Nat} (hg : g ∣ aN u) (hg0 : 0 < g) : 0 < (u / lN g).toInt := by
  have h1 := Int64.toInt_lt u
  have hu : aN u = u.toInt.toNat := by unfold aN; omega
  have hgl : g ≤ aN u := Nat.le_of_dvd (aN_pos h) hg
  rw [Int64.toInt_div_of_ne_left _ _ (ne_min_of (B := 9223372036854775807) (by omega) (by decide)), pk_lT (by omega)]
  obtain ⟨k, hk⟩ := hg
  have e : u.toInt = (g : Int) * (k : Int) := by
    have : (aN u : Int) = u.toInt := by omega
    rw [← this, hk]; exact Int.natCast_mul g k
  have hk0 : 0 < k := by
    rcases Nat.eq_zero_or_pos k with q | q
    · subst q; simp at e; omega
    · exact q
  rw [e, Int.mul_tdiv_cancel_left _ (by omega)]
  omega
theorem pfB_all {u : Int64} {f : Nat → Int64} (h : smallB u = true) : ∀ n, (∀ j, j < n → smallB (f j) = true) → pfB u f n = true
  | 0, _ => by unfold pfB; rw [h]; rfl
  | n + 1, hj => by rw [pfB_s, pfB_all h n (fun j q => hj j (by omega)), hj n (by omega)]; rfl
theorem pfB_get {u : Int64} {f : Nat → Int64} {n : Nat} (h : pfB u f n = true) : smallB u = true ∧ ∀ j, j < n → smallB (f j) = true := by
  unfold pfB at h
  rw [Bool.and_eq_true, List.all_eq_true] at h
  exact ⟨h.1, fun j hj => h.2 j (List.mem_range.mpr hj)⟩
theorem fit_small {u : Int64} {f : Nat → Int64} (h0 : 0 < u.toInt) (h1 : u.toInt ≤ 100000000) (h2 : ∀ j, j < 32 → sm8 (f j)) : fitB u f = true := by
  have hp := gA_pos (aN_pos h0) f 32
  have hl := gA_le (aN_pos h0) f 32
  have hl2 : gA u f 32 < 2 ^ 63 := Nat.lt_of_le_of_lt hl (by unfold aN; omega)
  exact pfB_all (smallB_iff.mpr (div_small (by omega) (by decide) hp hl2)) 32 (fun j hj => smallB_iff.mpr (div_small (h2 j hj) (by decide) hp hl2))
theorem red_small {u : Int64} {f : Nat → Int64} (h0 : 0 < u.toInt) (h : fitB u f = true) : MSm (redS u f) := by
  have h1 := pfB_get h
  have hs := smallB_iff.mp h1.1
  refine ⟨div_pos' h0 (gA_dvd u f 32) (gA_pos (aN_pos h0) f 32), hs.2, fun j hj => ?_⟩
  exact smallB_iff.mp (h1.2 j hj)
theorem lz_div (g : Nat) : (0 : Int64) / lN g = 0 := Int64.zero_div
theorem red_sp {W : Nat} {u : Int64} {f : Nat → Int64} (h : ∀ j, W ≤ j → j < 32 → f j = 0) : MSp W (redS u f) := fun j h1 h2 => by
  show f (j + 1 - 1) / _ = 0
  rw [Nat.add_sub_cancel, h j h1 h2]; exact lz_div _
theorem fitS_sm {u : Int64} {f : Nat → Int64} {T : MV} (h0 : 0 < u.toInt) (h : fitS u f = some T) : MSm T := by
  rw [fitS_eq] at h
  split at h
  · cases h; exact red_small h0 (by assumption)
  · cases h
theorem fitS_sp {W : Nat} {u : Int64} {f : Nat → Int64} {T : MV} (hf : ∀ j, W ≤ j → j < 32 → f j = 0) (h : fitS u f = some T) : MSp W T := by
  rw [fitS_eq] at h
  split at h
  · cases h; exact red_sp hf
  · cases h
/-- a number, and not 0 -/
def isNumB (M : MV) : Nat → Bool
  | 0 => decide (M 1 ≠ 0)
  | k + 1 => if k = 0 then isNumB M k else isNumB M k && decide (M (k + 1) = 0)
theorem isNumB_mono {M : MV} {n m : Nat} (h : isNumB M n = false) (hm : n ≤ m) : isNumB M m = false := by
  induction hm with
  | refl => exact h
  | step _ ih =>
    show (if _ = 0 then isNumB M _ else isNumB M _ && _) = false
    rw [ih]; split <;> rfl
