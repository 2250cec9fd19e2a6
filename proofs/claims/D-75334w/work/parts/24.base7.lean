/-! the output: a list of characters -/
def OutH (L : List Nat) (f : Nat → Int32) : Prop := ∀ j, j < L.length → f j = sb_b (L.getD j 0)
theorem OutH.nil {f : Nat → Int32} : OutH [] f := fun j h => absurd h (Nat.not_lt_zero _)
theorem OutH.add {L : List Nat} {f : Nat → Int32} {c n : Nat} (h : OutH L f) (hn : L.length = n) : OutH (L ++ [c]) (upd f n (sb_b c)) := fun j hj => by
  subst hn
  rw [List.length_append] at hj
  by_cases e : j = L.length
  · subst e
    rw [pk_us, List.getD_eq_getElem?_getD, List.getElem?_append_right (Nat.le_refl _), Nat.sub_self]; rfl
  · rw [pk_un e, h j (by simp at hj; omega), List.getD_eq_getElem?_getD, List.getD_eq_getElem?_getD, List.getElem?_append_left (by simp at hj; omega)]
def wrN (v : Nat) : List Nat := (List.range (sb_dg v)).map (sb_dec v)
theorem wrN_len (v : Nat) : (wrN v).length = sb_dg v := by unfold wrN; rw [List.length_map, List.length_range]
theorem sb_dg8 {v : Nat} (h : v < 1000000000) : sb_dg v ≤ 9 := by
  unfold sb_dg
  repeat' split
  all_goals omega
def topN (M : MV) (b : Nat) : Nat := aN (M (b + 1)) / Nat.gcd (aN (M 0)) (aN (M (b + 1)))
def botN (M : MV) (b : Nat) : Nat := aN (M 0) / Nat.gcd (aN (M 0)) (aN (M (b + 1)))
/-- the vectors of a blade, as digits -/
def vecL (b : Nat) : Nat → List Nat
  | 0 => []
  | k + 1 => if b / 2 ^ k &&& 1 = 1 then vecL b k ++ [49 + k] else vecL b k
theorem vecL_len (b : Nat) : ∀ k, (vecL b k).length ≤ k
  | 0 => Nat.le_refl _
  | k + 1 => by
    have := vecL_len b k
    show (if b / 2 ^ k &&& 1 = 1 then vecL b k ++ [49 + k] else vecL b k).length ≤ k + 1
    split
    · simp; omega
    · omega
def wrT (M : MV) (b : Nat) : List Nat := (if topN M b = 1 ∧ botN M b = 1 ∧ b ≠ 0 then [] else wrN (topN M b) ++ (if 1 < botN M b then [47] ++ wrN (botN M b) else []) ++ (if 0 < b then [42] else [])) ++ (if 0 < b then [101] ++ vecL b 5 else [])
def wrP (neg : Bool) (L : List Nat) : List Nat := if 0 < L.length then L ++ [32] ++ [if neg then 45 else 43] ++ [32] else if neg then L ++ [45] else L
def wrK (M : MV) : Nat → List Nat
  | 0 => []
  | k + 1 => if M (k + 1) = 0 then wrK M k else wrP (decide (M (k + 1) < 0)) (wrK M k) ++ wrT M k
def wrA (M : MV) : List Nat := if (wrK M 32).length = 0 then [48] else wrK M 32
theorem aN8 {v : Int64} (h : sm8 v) : aN v ≤ 100000000 := by unfold sm8 at h; unfold aN; omega
theorem wrT_len {M : MV} (hM : MSm M) {b : Nat} (hb : b < 32) : (wrT M b).length ≤ 26 := by
  have h1 : sb_dg (topN M b) ≤ 9 := sb_dg8 (Nat.lt_of_le_of_lt (Nat.div_le_self _ _) (by have := aN8 (hM.c hb); omega))
  have h2 : sb_dg (botN M b) ≤ 9 := sb_dg8 (Nat.lt_of_le_of_lt (Nat.div_le_self _ _) (by have := aN8 hM.u; omega))
  have h3 := vecL_len b 5
  unfold wrT
  simp only [List.length_append]
  have a1 : (if topN M b = 1 ∧ botN M b = 1 ∧ b ≠ 0 then [] else wrN (topN M b) ++ (if 1 < botN M b then [47] ++ wrN (botN M b) else []) ++ (if 0 < b then [42] else [])).length ≤ 20 := by
    split
    · exact Nat.zero_le _
    · simp only [List.length_append, wrN_len]
      have a2 : (if 1 < botN M b then [47] ++ wrN (botN M b) else []).length ≤ 10 := by
        split
        · simp only [List.length_append, wrN_len, List.length_cons, List.length_nil]; omega
        · exact Nat.zero_le _
      have a3 : (if 0 < b then [42] else []).length ≤ 1 := by split <;> simp
      omega
  have a4 : (if 0 < b then [101] ++ vecL b 5 else []).length ≤ 6 := by
    split
    · simp only [List.length_append, List.length_cons, List.length_nil]; omega
    · exact Nat.zero_le _
  omega
theorem wrP_len (neg : Bool) (L : List Nat) : (wrP neg L).length ≤ L.length + 3 := by
  unfold wrP
  split
  · simp
  · split <;> simp
theorem wrK_len {M : MV} (hM : MSm M) : ∀ k, k ≤ 32 → (wrK M k).length ≤ 29 * k
  | 0, _ => Nat.le_refl _
  | k + 1, h => by
    have h1 := wrK_len hM k (by omega)
    show (if M (k + 1) = 0 then wrK M k else wrP (decide (M (k + 1) < 0)) (wrK M k) ++ wrT M k).length ≤ _
    split
    · omega
    · rw [List.length_append]
      have h2 := wrP_len (decide (M (k + 1) < 0)) (wrK M k)
      have h3 := wrT_len hM (b := k) (by omega)
      omega
theorem dg_of {v k : Nat} (hv : v < 2 ^ 31) (h1 : 10 ^ k ≤ v) (h2 : v / 10 ^ k < 10) (hk : k ≤ 9) : sb_dg v = k + 1 := by
  have h3 : v < 10 ^ (k + 1) := by
    rw [Nat.pow_succ]
    have := Nat.div_lt_iff_lt_mul (Nat.pow_pos (n := k) (by decide : 0 < 10)) |>.mp h2
    rw [Nat.mul_comm]; exact this
  unfold sb_dg
  rcases (show k = 0 ∨ k = 1 ∨ k = 2 ∨ k = 3 ∨ k = 4 ∨ k = 5 ∨ k = 6 ∨ k = 7 ∨ k = 8 ∨ k = 9 by omega) with rfl | rfl | rfl | rfl | rfl | rfl | rfl | rfl | rfl | rfl <;> (simp only [Nat.reducePow, Nat.reduceAdd] at h1 h3; repeat' split) <;> omega
theorem wrN_s {v i : Nat} : (List.range (i + 1)).map (sb_dec v) = (List.range i).map (sb_dec v) ++ [sb_dec v i] := by rw [List.range_succ, List.map_append]; rfl
/-- the part of the model's world that the output uses -/
def obX (L : List Nat) (i : Int32) : IX := if i < 0 then (nI 1, nI 0) else (nI 0, if i.toNatClampNeg < L.length then nI (L.getD i.toNatClampNeg 0) else (-1))
def wrX (Ms : Nat → MV) (a : Int32) (L : List Nat) : Int32 × List Nat := if rgB a = false then (nI 1, L) else (nI 0, wrA (Ms (rg a)))
theorem div_aN {v : Int64} (h : sm8 v) {g : Nat} (hg : 0 < g) (hg2 : g < 2 ^ 63) : absL (v / lN g) = lN (aN v / g) := by
  have h1 := div_small h (by decide) hg hg2
  rw [absL_lN (ne_min_of h1 (by decide))]
  congr 1
  unfold aN
  rw [Int64.toInt_div_of_ne_left _ _ (ne_min_of h (by decide)), pk_lT hg2, Int.natAbs_tdiv]
  rfl
theorem div_lN {v : Int64} (h : sm8 v) (h0 : 0 ≤ v.toInt) {g : Nat} (hg : 0 < g) (hg2 : g < 2 ^ 63) : v / lN g = lN (aN v / g) := by
  rw [← div_aN h hg hg2]
  unfold absL
  rw [if_neg]
  intro c
  have h1 := Int64.lt_iff_toInt_lt.mp c
  rw [Int64.toInt_div_of_ne_left _ _ (ne_min_of h (by decide)), pk_lT hg2] at h1
  have h2 := Int.tdiv_nonneg h0 (Int.natCast_nonneg g)
  simp at h1
  omega
