section VX
variable {p q r : Nat} {Ms : Nat → MV}
theorem basM_sp {b W : Nat} (h : b < W) : MSp W (basM b) := fun j h1 _ => by
  show (if j + 1 = 0 then (1 : Int64) else if j + 1 = b + 1 then 1 else 0) = 0
  rw [if_neg (by omega), if_neg (by omega)]
theorem of_basM {b : Nat} (hb : b < 32) : ofS b 1 1 = some (basM b) := by
  rw [of_bas hb]
  congr 1
  funext i
  show (if i = 0 then (1 : Int64) else if i - 1 = b then 1 else 0) = if i = 0 then 1 else if i = b + 1 then 1 else 0
  by_cases h : i = 0
  · rw [if_pos h, if_pos h]
  · rw [if_neg h, if_neg h]
    by_cases h1 : i = b + 1
    · rw [if_pos (by omega), if_pos h1]
    · rw [if_neg (by omega), if_neg h1]
theorem ver_1 {a : Int32} (h : rgB a = false) : verX p q r Ms a = (nI 1, nI 0) := if_pos h
theorem ver_m {a : Nat} (ha : a < 8) (h : mixB (Ms a) = true) : verX p q r Ms (nI a) = (nI 0, nI 0) := by
  unfold verX; rw [rg_t ha, rg_n ha, h]; rfl
theorem ver_x {a : Nat} (ha : a < 8) (h : mixB (Ms a) = false) (e : mulS 2 p q r (Ms a) (trnS 0 p q r (Ms a)) = none) : verX p q r Ms (nI a) = (nI 2, nI 0) := by
  unfold verX; rw [rg_t ha, rg_n ha, h, show sqS p q r (Ms a) = none from e]; rfl
theorem ver_n {a : Nat} {S : MV} (ha : a < 8) (h : mixB (Ms a) = false) (e : mulS 2 p q r (Ms a) (trnS 0 p q r (Ms a)) = some S) (e2 : verN p q r (Ms a) S (p + q + r) = none) : verX p q r Ms (nI a) = (nI 2, nI 0) := by
  unfold verX; rw [rg_t ha, rg_n ha, h, show sqS p q r (Ms a) = some S from e]; dsimp only; rw [e2]; rfl
theorem ver_ok {a : Nat} {S : MV} {b : Bool} (ha : a < 8) (h : mixB (Ms a) = false) (e : mulS 2 p q r (Ms a) (trnS 0 p q r (Ms a)) = some S) (e2 : verN p q r (Ms a) S (p + q + r) = some b) : verX p q r Ms (nI a) = (nI 0, bI b) := by
  unfold verX; rw [rg_t ha, rg_n ha, h, show sqS p q r (Ms a) = some S from e]; dsimp only; rw [e2]; rfl
theorem ver_s {M S T : MV} {k : Nat} (h : verN p q r M S k = some true) (e : sndS p q r M (basM (2 ^ k)) = some T) : verN p q r M S (k + 1) = some (vecB T) := by
  simp only [verN, h, e]
theorem ver_z {M S : MV} {k : Nat} (h : verN p q r M S k = some true) (e : sndS p q r M (basM (2 ^ k)) = none) : verN p q r M S (k + 1) = none := by
  simp only [verN, h, e]
/-! the square of a vector is a number -/
theorem trm_z {M : MV} : ∀ n, cntN (fun j => M (j + 1)) n = 0 ↔ ∀ k, k < n → M (k + 1) = 0
  | 0 => ⟨fun _ k h => absurd h (Nat.not_lt_zero _), fun _ => rfl⟩
  | n + 1 => by
    show cntN (fun j => M (j + 1)) n + (if M (n + 1) = 0 then 0 else 1) = 0 ↔ _
    have ih := trm_z (M := M) n
    constructor
    · intro h k hk
      by_cases e : k = n
      · subst e
        apply Decidable.byContradiction
        intro c
        rw [if_neg c] at h; omega
      · exact ih.mp (by omega) k (by omega)
    · intro h
      rw [ih.mpr (fun k hk => h k (by omega)), if_pos (h n (by omega))]
theorem gr_trm {M : MV} (h : grS M = 0) : trmS M = 0 := by
  apply (trm_z 32).mpr
  intro k hk
  apply Decidable.byContradiction
  intro c
  have key : ∀ n, k < n → (grN M n).testBit (popc k) = true := by
    intro n
    induction n with
    | zero => intro c; omega
    | succ n ih =>
      intro c2
      show (grN M n ||| (if M (n + 1) = 0 then 0 else 2 ^ popc n)).testBit (popc k) = true
      rw [Nat.testBit_or]
      by_cases e : k = n
      · subst e; rw [if_neg c, Nat.testBit_two_pow_self, Bool.or_true]
      · rw [ih (by omega), Bool.true_or]
  have := key 32 hk
  rw [show grN M 32 = 0 from h, Nat.zero_testBit] at this
  cases this
theorem trm_gr {M : MV} (h : trmS M = 0) : grS M = 0 := gr_z 32 ((trm_z 32).mp h)
theorem vec_at {M : MV} (h : vecB M = true) {j : Nat} (hj : j < 32) (h0 : M (j + 1) ≠ 0) : popc j = 1 := by
  have key : ∀ n, j < n → (grN M n).testBit (popc j) = true := by
    intro n
    induction n with
    | zero => intro c; omega
    | succ n ih =>
      intro c
      show (grN M n ||| (if M (n + 1) = 0 then 0 else 2 ^ popc n)).testBit (popc j) = true
      rw [Nat.testBit_or]
      by_cases e : j = n
      · subst e; rw [if_neg h0, Nat.testBit_two_pow_self, Bool.or_true]
      · rw [ih (by omega), Bool.true_or]
  have h1 : (grS M).testBit (popc j) = true := key 32 hj
  have h2 : grS M &&& 61 = 0 := of_decide_eq_true h
  have h3 : (grS M &&& 61).testBit (popc j) = false := by rw [h2, Nat.zero_testBit]
  rw [Nat.testBit_and, h1, Bool.true_and] at h3
  have h4 : ∀ k, k < 6 → (61 : Nat).testBit k = false → k = 1 := by decide
  exact h4 _ (by have := popc_le5 j hj; omega) h3
theorem sgn_dis {p q a b : Nat} (h : a &&& b = 0) : ∀ n, sgnM p q a b n = ordS a b
  | 0 => rfl
  | n + 1 => by
    show (if (a &&& b) / 2 ^ n &&& 1 = 1 then _ else sgnM p q a b n) = _
    rw [h, Nat.zero_div, if_neg (by decide), sgn_dis h n]
theorem pop1 : ∀ {x : Nat}, x < 32 → popc x = 1 → x ∈ [1, 2, 4, 8, 16] := by
  have h : ∀ x, x < 32 → popc x = 1 → x ∈ [1, 2, 4, 8, 16] := by decide +kernel
  exact fun {x} a b => h x a b
theorem anti : ∀ a ∈ [1, 2, 4, 8, 16], ∀ b ∈ [1, 2, 4, 8, 16], a ≠ b → a &&& b = 0 ∧ ordS a b = -(ordS b a) := by decide +kernel
theorem sg_anti {a b : Nat} (ha : a < 32) (hb : b < 32) (h1 : popc a = 1) (h2 : popc b = 1) (hne : a ≠ b) : (sgS p q r a b).toInt64 = -(sgS p q r b a).toInt64 := by
  obtain ⟨h3, h4⟩ := anti a (pop1 ha h1) b (pop1 hb h2) hne
  unfold sgS
  rw [sgn_dis h3, sgn_dis (show b &&& a = 0 by rw [Nat.and_comm]; exact h3), h4]
  rcases ordS_sg b a with e | e | e <;> rw [e] <;> rfl
/-- a sum of terms that are 0 but at two places -/
def sumT (f : Nat → Int64) : Nat → Int64
  | 0 => 0
  | n + 1 => sumT f n + f n
theorem sumT_z {f : Nat → Int64} : ∀ n, (∀ a, a < n → f a = 0) → sumT f n = 0
  | 0, _ => rfl
  | n + 1, h => by
    show sumT f n + f n = 0
    rw [sumT_z n (fun a ha => h a (by omega)), h n (by omega)]; rfl
theorem sumT_1 {f : Nat → Int64} {x : Nat} : ∀ n, x < n → (∀ a, a < n → a ≠ x → f a = 0) → sumT f n = f x
  | 0, h, _ => absurd h (Nat.not_lt_zero _)
  | n + 1, h, hz => by
    show sumT f n + f n = f x
    by_cases e : x = n
    · subst e
      rw [sumT_z x (fun a ha => hz a (by omega) (by omega)), Int64.zero_add]
    · rw [sumT_1 n (by omega) (fun a ha hne => hz a (by omega) hne), hz n (by omega) (fun c => e c.symm), Int64.add_zero]
theorem sumT_2 {f : Nat → Int64} {x y : Nat} (hxy : x < y) : ∀ n, y < n → (∀ a, a < n → a ≠ x → a ≠ y → f a = 0) → sumT f n = f x + f y
  | 0, h, _ => absurd h (Nat.not_lt_zero _)
  | n + 1, h, hz => by
    show sumT f n + f n = f x + f y
    by_cases e : y = n
    · subst e
      rw [sumT_1 (x := x) y hxy (fun a ha hne => hz a (by omega) hne (by omega))]
    · rw [sumT_2 hxy n (by omega) (fun a ha h1 h2 => hz a (by omega) h1 h2), hz n (by omega) (by omega) (fun c => e c.symm), Int64.add_zero]
theorem mul_sum (kd p q r : Nat) (M N : MV) (j : Nat) : ∀ n, mulA kd p q r M N n j = sumT (fun a => if a ^^^ j < 2 ^ (p + q + r) then mt kd p q r M N a j else 0) n
  | 0 => rfl
  | n + 1 => by
    show mulA kd p q r M N n j + _ = sumT _ n + _
    rw [mul_sum kd p q r M N j n]
theorem vec_sq {M : MV} (hn : p + q + r ≤ 5) (hv : vecB M = true) {j : Nat} (hj : j < 32) (h0 : j ≠ 0) : mulR 2 p q r M M j = 0 := by
  unfold mulR
  rw [mul_sum]
  have hW := pow5 hn
  have hmt : ∀ a, mt 2 p q r M M a j = (sgS p q r a (a ^^^ j)).toInt64 * M (a + 1) * M ((a ^^^ j) + 1) := fun a => if_pos rfl
  by_cases hex : ∃ x, x < 2 ^ (p + q + r) ∧ x ^^^ j < 2 ^ (p + q + r) ∧ M (x + 1) ≠ 0 ∧ M ((x ^^^ j) + 1) ≠ 0
  · obtain ⟨x, hx, hy, m1, m2⟩ := hex
    have p1 := vec_at hv (by omega) m1
    have p2 := vec_at hv (by omega) m2
    have hne : x ≠ x ^^^ j := by
      intro c
      apply h0
      have h2 := congrArg (fun z => x ^^^ z) c
      simp only [Nat.xor_self, ← Nat.xor_assoc, Nat.zero_xor] at h2
      exact h2.symm
    have hz : ∀ a, a < 2 ^ (p + q + r) → a ≠ x → a ≠ x ^^^ j → (if a ^^^ j < 2 ^ (p + q + r) then mt 2 p q r M M a j else 0) = 0 := by
      intro a ha n1 n2
      split
      · rename_i hb
        rw [hmt]
        by_cases c1 : M (a + 1) = 0
        · rw [c1, Int64.mul_zero, Int64.zero_mul]
        · by_cases c2 : M ((a ^^^ j) + 1) = 0
          · rw [c2, Int64.mul_zero]
          · exfalso
            have q1 := vec_at hv (by omega) c1
            have q2 := vec_at hv (by omega) c2
            have key : ∀ x ∈ [1, 2, 4, 8, 16], ∀ y ∈ [1, 2, 4, 8, 16], ∀ a ∈ [1, 2, 4, 8, 16], ∀ b ∈ [1, 2, 4, 8, 16], x ^^^ y = a ^^^ b → x ≠ y → a = x ∨ a = y := by decide +kernel
            have e1 : x ^^^ (x ^^^ j) = a ^^^ (a ^^^ j) := by rw [xor_cancel, xor_cancel]
            rcases key x (pop1 (by omega) p1) (x ^^^ j) (pop1 (by omega) p2) a (pop1 (by omega) q1) (a ^^^ j) (pop1 (by omega) q2) e1 hne with c | c
            · exact n1 c
            · exact n2 c
      · rfl
    have e2 : (x ^^^ j) ^^^ j = x := by rw [Nat.xor_assoc, Nat.xor_self, Nat.xor_zero]
    have hsum : (if x ^^^ j < 2 ^ (p + q + r) then mt 2 p q r M M x j else 0) + (if (x ^^^ j) ^^^ j < 2 ^ (p + q + r) then mt 2 p q r M M (x ^^^ j) j else 0) = 0 := by
      rw [if_pos hy, e2, if_pos hx, hmt, hmt, e2, sg_anti (p := p) (q := q) (r := r) (a := x) (b := x ^^^ j) (by omega) (by omega) p1 p2 hne, Int64.neg_mul, Int64.neg_mul, Int64.mul_assoc, Int64.mul_assoc, Int64.mul_comm (M (x + 1)), Int64.add_comm]
      exact Int64.add_right_neg _
    rcases Nat.lt_or_gt_of_ne hne with c | c
    · rw [sumT_2 c _ hy hz]; exact hsum
    · rw [sumT_2 c _ hx (fun a ha h1 h2 => hz a ha h2 h1), Int64.add_comm]; exact hsum
  · apply sumT_z
    intro a ha
    split
    · rename_i hb
      rw [hmt]
      by_cases c1 : M (a + 1) = 0
      · rw [c1, Int64.mul_zero, Int64.zero_mul]
      · by_cases c2 : M ((a ^^^ j) + 1) = 0
        · rw [c2, Int64.mul_zero]
        · exact absurd ⟨a, ha, hb, c1, c2⟩ hex
    · rfl
theorem fit_zero {u : Int64} {f : Nat → Int64} {S : MV} (e : fitS u f = some S) {j : Nat} (h : f j = 0) : S (j + 1) = 0 := by
  rw [fitS_eq] at e
  split at e
  · cases e
    show (if j + 1 = 0 then _ else f (j + 1 - 1) / _) = 0
    rw [if_neg (by omega), Nat.add_sub_cancel, h, lz_div]
  · cases e
theorem rot_z {M S : MV} (hn : p + q + r ≤ 5) (hv : vecB M = true) (e : mulS 2 p q r M M = some S) (h : isNumB S 32 = false) {T : MV} : trmS S = 0 ∨ likeB S T 33 = false := by
  left
  have hz : ∀ k, 1 ≤ k → k < 32 → S (k + 1) = 0 := fun k h1 h2 => fit_zero e (vec_sq hn hv h2 (by omega))
  have h1 : S 1 = 0 := by
    apply Decidable.byContradiction
    intro c
    rw [(isN_iff S 32).mpr ⟨c, hz⟩] at h; cases h
  apply (trm_z 32).mpr
  intro k hk
  by_cases e0 : k = 0
  · subst e0; exact h1
  · exact hz k (by omega) hk
theorem rot_q {S T : MV} (h : isNumB S 32 = true) (h2 : likeB S T 33 = true) : ¬ (trmS S = 0 ∨ likeB S T 33 = false) := by
  rintro (c | c)
  · exact ((isN_iff S 32).mp h).1 ((trm_z 32).mp c 0 (by decide))
  · rw [c] at h2; cases h2
theorem rot_1 {t a b : Int32} (h : (rgB t && rgB a && rgB b) = false) : rotX p q r Ms t a b = (nI 1, none) := if_pos h
theorem rot_2 {t a b : Nat} (ht : t < 8) (ha : a < 8) (hb : b < 8) (h : (vecB (Ms a) && vecB (Ms b)) = false) : rotX p q r Ms (nI t) (nI a) (nI b) = (nI 2, none) := by
  unfold rotX; rw [rg_t ht, rg_t ha, rg_t hb, rg_n ha, rg_n hb, h]; rfl
section RT
variable {t a b : Nat} {A B C D E : MV}
theorem rot_x0 (ht : t < 8) (ha : a < 8) (hb : b < 8) (va : vecB (Ms a) = true) (vb : vecB (Ms b) = true) (e1 : mulS 2 p q r (Ms a) (Ms a) = none) : rotX p q r Ms (nI t) (nI a) (nI b) = (nI 3, none) := by
  unfold rotX; rw [rg_t ht, rg_t ha, rg_t hb, rg_n ha, rg_n hb, va, vb, e1]; rfl
theorem rot_x1 (ht : t < 8) (ha : a < 8) (hb : b < 8) (va : vecB (Ms a) = true) (vb : vecB (Ms b) = true) (e1 : mulS 2 p q r (Ms a) (Ms a) = some A) (e2 : mulS 2 p q r (Ms b) (Ms b) = none) : rotX p q r Ms (nI t) (nI a) (nI b) = (nI 3, none) := by
  unfold rotX; rw [rg_t ht, rg_t ha, rg_t hb, rg_n ha, rg_n hb, va, vb, e1]; dsimp only; rw [e2]; rfl
theorem rot_4 (ht : t < 8) (ha : a < 8) (hb : b < 8) (va : vecB (Ms a) = true) (vb : vecB (Ms b) = true) (e1 : mulS 2 p q r (Ms a) (Ms a) = some A) (e2 : mulS 2 p q r (Ms b) (Ms b) = some B) (h : trmS A = 0 ∨ likeB A B 33 = false) : rotX p q r Ms (nI t) (nI a) (nI b) = (nI 4, none) := by
  unfold rotX; rw [rg_t ht, rg_t ha, rg_t hb, rg_n ha, rg_n hb, va, vb, e1]; dsimp only; rw [e2]; dsimp only; rw [if_pos h]; rfl
theorem rot_e (ht : t < 8) (ha : a < 8) (hb : b < 8) (va : vecB (Ms a) = true) (vb : vecB (Ms b) = true) (e1 : mulS 2 p q r (Ms a) (Ms a) = some A) (e2 : mulS 2 p q r (Ms b) (Ms b) = some B) (h : ¬ (trmS A = 0 ∨ likeB A B 33 = false)) : rotX p q r Ms (nI t) (nI a) (nI b) = match mulS 2 p q r (Ms b) (Ms a) with
      | none => (nI 3, none)
      | some C => match addS (nI 1) A C with
        | none => (nI 3, none)
        | some D => match sqS p q r D with
          | none => (nI 3, none)
          | some E => if trmS E = 0 then (nI 4, none) else (nI 0, some D) := by
  unfold rotX; rw [rg_t ht, rg_t ha, rg_t hb, rg_n ha, rg_n hb, va, vb, e1]; dsimp only; rw [e2]; dsimp only; rw [if_neg h]; rfl
theorem rot_x2 (ht : t < 8) (ha : a < 8) (hb : b < 8) (va : vecB (Ms a) = true) (vb : vecB (Ms b) = true) (e1 : mulS 2 p q r (Ms a) (Ms a) = some A) (e2 : mulS 2 p q r (Ms b) (Ms b) = some B) (h : ¬ (trmS A = 0 ∨ likeB A B 33 = false)) (e3 : mulS 2 p q r (Ms b) (Ms a) = none) : rotX p q r Ms (nI t) (nI a) (nI b) = (nI 3, none) := by
  rw [rot_e ht ha hb va vb e1 e2 h, e3]
theorem rot_x3 (ht : t < 8) (ha : a < 8) (hb : b < 8) (va : vecB (Ms a) = true) (vb : vecB (Ms b) = true) (e1 : mulS 2 p q r (Ms a) (Ms a) = some A) (e2 : mulS 2 p q r (Ms b) (Ms b) = some B) (e3 : mulS 2 p q r (Ms b) (Ms a) = some C) (h : ¬ (trmS A = 0 ∨ likeB A B 33 = false)) (e4 : addS (nI 1) A C = none) : rotX p q r Ms (nI t) (nI a) (nI b) = (nI 3, none) := by
  rw [rot_e ht ha hb va vb e1 e2 h, e3]; dsimp only; rw [e4]
theorem rot_x4 (ht : t < 8) (ha : a < 8) (hb : b < 8) (va : vecB (Ms a) = true) (vb : vecB (Ms b) = true) (e1 : mulS 2 p q r (Ms a) (Ms a) = some A) (e2 : mulS 2 p q r (Ms b) (Ms b) = some B) (e3 : mulS 2 p q r (Ms b) (Ms a) = some C) (e4 : addS (nI 1) A C = some D) (h : ¬ (trmS A = 0 ∨ likeB A B 33 = false)) (e5 : mulS 2 p q r D (trnS 0 p q r D) = none) : rotX p q r Ms (nI t) (nI a) (nI b) = (nI 3, none) := by
  rw [rot_e ht ha hb va vb e1 e2 h, e3]; dsimp only; rw [e4]; dsimp only; rw [show sqS p q r D = none from e5]
theorem rot_u (ht : t < 8) (ha : a < 8) (hb : b < 8) (va : vecB (Ms a) = true) (vb : vecB (Ms b) = true) (e1 : mulS 2 p q r (Ms a) (Ms a) = some A) (e2 : mulS 2 p q r (Ms b) (Ms b) = some B) (e3 : mulS 2 p q r (Ms b) (Ms a) = some C) (e4 : addS (nI 1) A C = some D) (e5 : mulS 2 p q r D (trnS 0 p q r D) = some E) (h : ¬ (trmS A = 0 ∨ likeB A B 33 = false)) (h2 : trmS E = 0) : rotX p q r Ms (nI t) (nI a) (nI b) = (nI 4, none) := by
  rw [rot_e ht ha hb va vb e1 e2 h, e3]; dsimp only; rw [e4]; dsimp only; rw [show sqS p q r D = some E from e5]; dsimp only; rw [if_pos h2]
theorem rot_ok (ht : t < 8) (ha : a < 8) (hb : b < 8) (va : vecB (Ms a) = true) (vb : vecB (Ms b) = true) (e1 : mulS 2 p q r (Ms a) (Ms a) = some A) (e2 : mulS 2 p q r (Ms b) (Ms b) = some B) (e3 : mulS 2 p q r (Ms b) (Ms a) = some C) (e4 : addS (nI 1) A C = some D) (e5 : mulS 2 p q r D (trnS 0 p q r D) = some E) (h : ¬ (trmS A = 0 ∨ likeB A B 33 = false)) (h2 : ¬ trmS E = 0) : rotX p q r Ms (nI t) (nI a) (nI b) = (nI 0, some D) := by
  rw [rot_e ht ha hb va vb e1 e2 h, e3]; dsimp only; rw [e4]; dsimp only; rw [show sqS p q r D = some E from e5]; dsimp only; rw [if_neg h2]
end RT
theorem mulR_sp {kd : Nat} {M N : MV} {j : Nat} (h : 2 ^ (p + q + r) ≤ j) : mulR kd p q r M N j = 0 := by
  unfold mulR
  rw [mul_sum]
  apply sumT_z
  intro a ha
  rw [if_neg]
  intro c
  have h2 := Nat.xor_lt_two_pow ha c
  rw [xor_cancel] at h2
  omega
theorem mulS_sp {kd : Nat} {M N S : MV} (e : mulS kd p q r M N = some S) : MSp (2 ^ (p + q + r)) S := fitS_sp (fun _ h _ => mulR_sp h) e
theorem addS_sp {W : Nat} {s : Int32} {M N S : MV} (hM : MSp W M) (hN : MSp W N) (e : addS s M N = some S) : MSp W S := fitS_sp (fun j h h2 => by
  show M (j + 1) * N 0 + s.toInt64 * N (j + 1) * M 0 = 0
  rw [hM j h h2, hN j h h2, Int64.zero_mul, Int64.mul_zero, Int64.zero_mul]; rfl) e
theorem rot_sp {a b : Nat} {A C D : MV} (_pR : ∀ k, k < 8 → MSp (2 ^ (p + q + r)) (Ms k)) (_ha : a < 8) (_hb : b < 8) (e1 : mulS 2 p q r (Ms a) (Ms a) = some A) (e3 : mulS 2 p q r (Ms b) (Ms a) = some C) (e4 : addS (nI 1) A C = some D) : MSp (2 ^ (p + q + r)) D := addS_sp (mulS_sp e1) (mulS_sp e3) e4
/-! the conformal form -/
theorem cf_in {p q r : Nat} (hp : p + q + r ≤ 5) (h1 : q = 1) (h2 : r = 0) : cfB p q r = inB (nI p) (nI 2) (nI 4) := by
  unfold cfB inB
  rw [decide_eq_true h1, decide_eq_true h2, Bool.true_and, Bool.true_and]
  congr 1
  · exact decide_eq_decide.mpr (nI_leI (by decide) (by omega)).symm
  · exact decide_eq_decide.mpr (nI_leI (by omega) (by decide)).symm
theorem wsb_a {M : MV} (h : (cfB p q r && vecB M) = false) : wsB p q r M = false := by unfold wsB; rw [h, Bool.false_and]
theorem wsb_z {M : MV} (h : twW p M = 0) : wsB p q r M = false := by unfold wsB; rw [decide_eq_false (fun c => c h), Bool.and_false]
theorem wsb_t {M : MV} (h1 : cfB p q r = true) (h2 : vecB M = true) (h3 : ¬ twW p M = 0) : wsB p q r M = true := by unfold wsB; rw [h1, h2, decide_eq_true h3]; rfl
theorem wsb_of {M : MV} (h : wsB p q r M = true) : cfB p q r = true ∧ vecB M = true ∧ ¬ twW p M = 0 := by
  unfold wsB at h
  rw [Bool.and_eq_true, Bool.and_eq_true] at h
  exact ⟨h.1.1, h.1.2, of_decide_eq_true h.2⟩
theorem aN_nz {v : Int64} (h : ¬ v = 0) : 0 < aN v := by
  unfold aN
  have : v.toInt ≠ 0 := fun c => h (Int64.toInt_inj.mp (c.trans rfl))
  omega
theorem mn_nz {v : Int64} (h : 0 < v.toInt) : ¬ v = 0 := by
  intro c; rw [c] at h; exact absurd h (by decide)
theorem tab_nm {F : Nat → Int64} {n k : Nat} (h : ∀ k, k < 5 → F k ≠ Int64.minValue) (hk : k < 5) : tabS F n k ≠ Int64.minValue := by
  unfold tabS
  split
  · exact h k hk
  · decide
theorem pv_scale (v : Nat → Int64) (s : Int64) (j : Nat) : ∀ n, pvS v n j * s = pvS (fun k => v k * s) n j
  | 0 => Int64.zero_mul
  | n + 1 => by
    show vp_updL (pvS v n) (2 ^ n) (v n) j * s = vp_updL (pvS (fun k => v k * s) n) (2 ^ n) (v n * s) j
    by_cases e : j = 2 ^ n
    · subst e; rw [pk_uLs, pk_uLs]
    · rw [pk_uLn e, pk_uLn e, pv_scale v s j n]
theorem fitG_pv {u : Int64} {v : Nat → Int64} {n : Nat} : fitG u (pvS v n) = fitS (u * sgL u) (pvS (fun k => v k * sgL u) n) := by
  unfold fitG
  congr 1
  funext j
  exact pv_scale v (sgL u) j n
theorem tab_pv {F : Nat → Int64} {s : Int64} {n : Nat} (hn : n ≤ 5) : pvS (fun k => tabS F n k * s) 5 = pvS (fun k => F k * s) n := by
  have h1 := pv_grow (v := fun k => tabS F n k * s) (n := n) (m := 5) hn (fun k h _ => by
    show tabS F n k * s = 0
    unfold tabS; rw [if_neg (by omega), Int64.zero_mul])
  rw [h1]
  exact pv_ext (fun k hk => by show tabS F n k * s = F k * s; unfold tabS; rw [if_pos hk])
theorem cen_f {M : MV} {x : Option MV} (hp : p ≤ 4) (e : fitG (twW p M) (pvS (tabS (fun k => M (2 ^ k + 1)) (p - 1)) 5) = x) : fitS (sgL (twW p M) * twW p M) (pvS (ceV p M) (p - 1)) = x := by
  rw [fitG_pv, tab_pv (by omega)] at e
  rw [← e, Int64.mul_comm (sgL _)]
  congr 1
  exact pv_ext (fun k _ => Int64.mul_comm _ _)
section CE
variable {t a : Nat} {C : MV}
theorem cen_1 {t a : Int32} (h : (rgB t && rgB a) = false) : ceX p q r Ms t a = (nI 1, none) := by
  have hw : wsX p q r Ms t a = nI 1 := if_pos h
  unfold ceX; rw [hw]; rfl
theorem wsx_2 (ht : t < 8) (ha : a < 8) (h : wsB p q r (Ms a) = false) : wsX p q r Ms (nI t) (nI a) = nI 2 := by
  unfold wsX; rw [rg_t ht, rg_t ha, rg_n ha, h]; rfl
theorem wsx_0 (ht : t < 8) (ha : a < 8) (h : wsB p q r (Ms a) = true) : wsX p q r Ms (nI t) (nI a) = nI 0 := by
  unfold wsX; rw [rg_t ht, rg_t ha, rg_n ha, h]; rfl
theorem cen_2 (ht : t < 8) (ha : a < 8) (h : wsB p q r (Ms a) = false) : ceX p q r Ms (nI t) (nI a) = (nI 2, none) := by
  unfold ceX; rw [wsx_2 ht ha h]; rfl
theorem cen_3 (ht : t < 8) (ha : a < 8) (h : wsB p q r (Ms a) = true) (e : fitS (sgL (twW p (Ms a)) * twW p (Ms a)) (pvS (ceV p (Ms a)) (p - 1)) = none) : ceX p q r Ms (nI t) (nI a) = (nI 3, none) := by
  unfold ceX; rw [wsx_0 ht ha h, rg_n ha, e]; rfl
theorem cen_ok (ht : t < 8) (ha : a < 8) (h : wsB p q r (Ms a) = true) (e : fitS (sgL (twW p (Ms a)) * twW p (Ms a)) (pvS (ceV p (Ms a)) (p - 1)) = some C) : ceX p q r Ms (nI t) (nI a) = (nI 0, some C) := by
  unfold ceX; rw [wsx_0 ht ha h, rg_n ha, e]; rfl
theorem rad_1 {t a : Int32} (h : (rgB t && rgB a) = false) : raX p q r Ms t a = (nI 1, none) := by
  have hw : wsX p q r Ms t a = nI 1 := if_pos h
  unfold raX; rw [hw]; rfl
theorem rad_2 (ht : t < 8) (ha : a < 8) (h : wsB p q r (Ms a) = false) : raX p q r Ms (nI t) (nI a) = (nI 2, none) := by
  unfold raX; rw [wsx_2 ht ha h]; rfl
theorem rad_3 (ht : t < 8) (ha : a < 8) (h : wsB p q r (Ms a) = true) (e : mulS (4 + 2) p q r (Ms a) (Ms a) = none) : raX p q r Ms (nI t) (nI a) = (nI 3, none) := by
  unfold raX; rw [wsx_0 ht ha h, rg_n ha, show mulS 6 p q r (Ms a) (Ms a) = none from e]; rfl
theorem rad_4 {S : MV} (ht : t < 8) (ha : a < 8) (h : wsB p q r (Ms a) = true) (e : mulS (4 + 2) p q r (Ms a) (Ms a) = some S) (e2 : fitS (twW p (Ms a) * twW p (Ms a)) (raR p q r (Ms a) (p + q + r)) = none) : raX p q r Ms (nI t) (nI a) = (nI 3, none) := by
  unfold raX; rw [wsx_0 ht ha h, rg_n ha, show mulS 6 p q r (Ms a) (Ms a) = some S from e]; dsimp only; rw [e2]; rfl
theorem rad_ok {S : MV} (ht : t < 8) (ha : a < 8) (h : wsB p q r (Ms a) = true) (e : mulS (4 + 2) p q r (Ms a) (Ms a) = some S) (e2 : fitS (twW p (Ms a) * twW p (Ms a)) (raR p q r (Ms a) (p + q + r)) = some C) : raX p q r Ms (nI t) (nI a) = (nI 0, some C) := by
  unfold raX; rw [wsx_0 ht ha h, rg_n ha, show mulS 6 p q r (Ms a) (Ms a) = some S from e]; dsimp only; rw [e2]; rfl
end CE
theorem rad_f {w v : Int64} {x : Option MV} {M : MV} {k : Nat} (h : 0 < (w * w).toInt) (e : ofS 0 v (w * w) = x) (hv : v = raQ p q r M k := by rfl) : fitS (w * w) (raR p q r M k) = x := by
  rw [← e]
  show _ = fitG (w * w) _
  rw [fitG_pos h]
  congr 1
  funext j
  show (if j = 0 then raQ p q r M k else 0) = _
  by_cases c : j = 0
  · subst c; rw [if_pos rfl, pk_uLs, hv]
  · rw [if_neg c, pk_uLn c]
theorem rad_R {M : MV} (hn : p + q + r ≤ 5) (hv : vecB M = true) {j : Nat} (hj : j < 32) : mulR 6 p q r M M j = if j = 0 then raQ p q r M (p + q + r) else 0 := by
  have hW := pow5 hn
  unfold mulR
  rw [mul_sum]
  by_cases h0 : j = 0
  · subst h0
    rw [if_pos rfl]
    have key : ∀ k, k ≤ p + q + r → sumT (fun a => if a ^^^ 0 < 2 ^ (p + q + r) then mt 6 p q r M M a 0 else 0) (2 ^ k) = raQ p q r M k := by
      intro k
      induction k with
      | zero =>
        intro _
        show (0 : Int64) + _ = 0
        rw [Int64.zero_add]
        have h0 : M 1 = 0 := by
          apply Decidable.byContradiction
          intro c
          exact absurd (vec_at hv (j := 0) (by decide) c) (by decide)
        show (if 0 ^^^ 0 < 2 ^ (p + q + r) then mt 6 p q r M M 0 0 else 0) = 0
        rw [if_pos (by simp; omega)]
        unfold mt
        split
        · show _ * M (0 + 1) * _ = 0
          rw [show M (0 + 1) = 0 from h0, Int64.mul_zero, Int64.zero_mul]
        · rfl
      | succ k ih =>
        intro hk
        have hsplit : ∀ d, d ≤ 2 ^ k → sumT (fun a => if a ^^^ 0 < 2 ^ (p + q + r) then mt 6 p q r M M a 0 else 0) (2 ^ k + d) = raQ p q r M k + (if 0 < d then (sgS p q r (2 ^ k) (2 ^ k)).toInt64 * M (2 ^ k + 1) * M (2 ^ k + 1) else 0) := by
          intro d
          induction d with
          | zero => intro _; rw [if_neg (Nat.lt_irrefl _), Int64.add_zero]; exact ih (by omega)
          | succ d ihd =>
            intro hd
            have h2 : 2 ^ (k + 1) ≤ 2 ^ (p + q + r) := pow_le' hk
            have h3 : 2 ^ (k + 1) = 2 ^ k + 2 ^ k := by rw [Nat.pow_succ]; omega
            show sumT _ (2 ^ k + d) + (if (2 ^ k + d) ^^^ 0 < 2 ^ (p + q + r) then mt 6 p q r M M (2 ^ k + d) 0 else 0) = _
            rw [ihd (by omega), Nat.xor_zero, if_pos (show 2 ^ k + d < 2 ^ (p + q + r) by omega), if_pos (Nat.succ_pos _)]
            have hm : mt 6 p q r M M (2 ^ k + d) 0 = (sgS p q r (2 ^ k + d) (2 ^ k + d)).toInt64 * M (2 ^ k + d + 1) * M (2 ^ k + d + 1) := by
              unfold mt
              rw [Nat.xor_zero, if_pos]
              unfold takB takG
              rw [Nat.xor_self]; rfl
            rw [hm]
            by_cases hd0 : d = 0
            · subst hd0
              rw [if_neg (Nat.lt_irrefl _), Int64.add_zero]; rfl
            · rw [if_pos (by omega)]
              have hz : M (2 ^ k + d + 1) = 0 := by
                apply Decidable.byContradiction
                intro c
                have h4 := vec_at hv (j := 2 ^ k + d) (by omega) c
                have h5 : ∀ k, k < 5 → ∀ d, d < 2 ^ k → d ≠ 0 → ¬ popc (2 ^ k + d) = 1 := by decide +kernel
                exact h5 k (by omega) d (by omega) hd0 h4
              rw [hz, Int64.mul_zero, Int64.add_zero]
        have := hsplit (2 ^ k) (Nat.le_refl _)
        rw [if_pos (Nat.two_pow_pos _)] at this
        rw [show 2 ^ (k + 1) = 2 ^ k + 2 ^ k by rw [Nat.pow_succ]; omega, this]; rfl
    exact key _ (Nat.le_refl _)
  · rw [if_neg h0]
    apply sumT_z
    intro a ha
    split
    · rename_i hb
      unfold mt
      rw [if_neg]
      intro c
      have c2 : decide (popc (a ^^^ (a ^^^ j)) = 0) = true := c
      rw [xor_cancel] at c2
      exact h0 (pop_0 hj (of_decide_eq_true c2))
    · rfl
theorem div_ex {u : Int64} {g : Nat} (hu : u ≠ Int64.minValue) (hg : g ∣ aN u) (h0 : 0 < g) (h : g < 2 ^ 63) : (u / lN g).toInt * (g : Int) = u.toInt := by
  rw [Int64.toInt_div_of_ne_left _ _ hu, lN_t h]
  apply Int.tdiv_mul_cancel
  unfold aN at hg
  exact Int.ofNat_dvd_left.mpr hg
theorem rad_a {M S : MV} (hn : p + q + r ≤ 5) (sM : MSm M) (hv : vecB M = true) (e : mulS (4 + 2) p q r M M = some S) : S 1 * (M 0 * M 0 / S 0) = raQ p q r M (p + q + r) := by
  have e : fitS (M 0 * M 0) (mulR 6 p q r M M) = some S := e
  have hU := und_bd sM sM
  have hUm : M 0 * M 0 ≠ Int64.minValue := nm_p hU.1
  have hR0 := raQ_bd (p := p) (q := q) (r := r) sM (p + q + r) hn
  have hRm : raQ p q r M (p + q + r) ≠ Int64.minValue := ne_min_of (B := 50000000000000000) (by omega) (by decide)
  have hg0 := gA_pos (aN_pos hU.1) (mulR 6 p q r M M) 32
  have hgle := gA_le (aN_pos hU.1) (mulR 6 p q r M M) 32
  have hg63 : gA (M 0 * M 0) (mulR 6 p q r M M) 32 < 2 ^ 63 := Nat.lt_of_le_of_lt hgle (aN_lt hUm)
  have hd1 := gA_dvd (M 0 * M 0) (mulR 6 p q r M M) 32
  have hd2 : gA (M 0 * M 0) (mulR 6 p q r M M) 32 ∣ aN (raQ p q r M (p + q + r)) := by
    have h1 : ∀ n, gA (M 0 * M 0) (mulR 6 p q r M M) (n + 1) ∣ aN (mulR 6 p q r M M 0) := by
      intro n
      induction n with
      | zero => exact Nat.gcd_dvd_right _ _
      | succ n ih => exact Nat.dvd_trans (Nat.gcd_dvd_left _ _) ih
    have h2 := h1 31
    rw [rad_R hn hv (j := 0) (by decide), if_pos rfl] at h2
    exact h2
  rw [fitS_eq] at e
  split at e
  · cases e
    show (mulR 6 p q r M M (1 - 1) / lN _) * (M 0 * M 0 / (M 0 * M 0 / lN _)) = _
    rw [show (1 - 1 : Nat) = 0 from rfl, rad_R hn hv (j := 0) (by decide), if_pos rfl]
    generalize hg : gA (M 0 * M 0) (mulR 6 p q r M M) 32 = g at *
    have x1 := div_ex hUm hd1 hg0 hg63
    have x2 := div_ex hRm hd2 hg0 hg63
    have hpos := div_pos' hU.1 hd1 hg0
    have x3 : (M 0 * M 0 / (M 0 * M 0 / lN g)).toInt = (g : Int) := by
      rw [Int64.toInt_div_of_ne_left _ _ hUm]
      generalize (M 0 * M 0 / lN g).toInt = z at *
      rw [← x1]
      exact Int.mul_tdiv_cancel_left _ (by omega)
    apply Int64.toInt_inj.mp
    rw [Int64.toInt_mul, x3, x2]
    exact bm64 (by omega)
  · cases e
end VX
set_option maxHeartbeats 4000000 in
theorem x1_isVersor {l : Launch} {dC : Nat → ClassId} {dI : Nat → Nat → Nat} {dA : Nat → ClassId} {s0 : State} {b0 : Addr} (Z : Z0 l dC dI dA s0 b0) (A : Nat → Prop) (sz : Nat) (hA : ∀ q : Nat, sz ≤ q → A q) {σ : Nat → Nat} (Y : SS (dC, dI) dA σ s0) (xa : Nat → Nat) (tl : Nat) (ec ep : Int32) (ga sg : Nat) (sr : Nat → Nat) (p0 q0 r0 : Nat) (rm rr : Nat → Nat) (Ms : Nat → MV) (a : Int32) (sR : ∀ k, k < 8 → MSm (Ms k)) (pR : ∀ k, k < 8 → MSp (2 ^ (p0 + q0 + r0)) (Ms k)) : vx_Met l yX1_isVersor (wsW_ yX1_isVersor cX1_isVersor 5 (some .boolean) [((29 : Nat), (51 : Nat), (102 : Nat), (179 : Nat)), ((52 : Nat), (101 : Nat), (102 : Nat), (179 : Nat))]) ({ frames := 11, cells := 70, slots := 1100, locals := 660 } : Room) (gP [.ref (xa 0), .int a] s0 A (fun H => H.size = sz ∧ RO A (dC, dI) [((xa 0), .inr (3, xFs xa tl ec ep)), ((xa 3), .inr (4, [.ref ga, .ref (xa 7)]))] H ∧ RO A (dC, dI) [((xa 7), .inl (dA 4, 8, .inr (.inr (.inr (.inr (fun k => some (rm k)))))))] H ∧ AG A (dC, dI) dA ga sg sr p0 q0 r0 H ∧ RG A (dC, dI) dA rm rr Ms H)) (va_Qi (S := Unit) (fun r9 _ => verX p0 q0 r0 Ms a = (nI 0, r9)) (B1 (dC, dI) A (fun _ => []) (fun _ _ => True)) A) (vx_X (S := Unit) (fun _ => True) (fun _ E _ _ => (E = "java/lang/IndexOutOfBoundsException" ∧ verX p0 q0 r0 Ms a = (nI 1, nI 0)) ∨ (E = "java/lang/ArithmeticException" ∧ verX p0 q0 r0 Ms a = (nI 2, nI 0))) A) 70 1100 A := by
  refine vx_ofWH (cc := cX1_isVersor) (maxL := 5) (ret := (some .boolean)) (by decide) rfl ?_
  intro p e s m args below meth c s₁ B hml hv
  obtain ⟨hav, hG, hsz, hR0, hR1, hAG, hRG⟩ := hv
  have hx := B.exec
  have hb := B.bytes
  have hr := B.returns
  have hts := atoms_spec (ws := (wsW_ yX1_isVersor cX1_isVersor 5 (some .boolean) [((29 : Nat), (51 : Nat), (102 : Nat), (179 : Nat)), ((52 : Nat), (101 : Nat), (102 : Nat), (179 : Nat))])) B.pre
  have hxt : c.exceptionTable.toList = [⟨29, 51, 102, 179⟩, ⟨52, 101, 102, 179⟩] := vx_table (x := yX1_isVersor) (y := yX1_isVersor) B (hts _ List.mem_cons_self)
  have hts : ∀ w ∈ lw_all, w.before _ s = true := fun w h => hts w (List.mem_cons_of_mem _ h)
  have hown : s.vm.findClass RX1 = some m.cls := findClass_of_methodNamed B.named
  have hlocks := B.notSynchronized
  have hK := hG.K Z
  subst hsz
  have hS : va_S A s.heap s.heap [] := va_S.rf
  have hP : va_P (dC, dI) vwCl [] s.heap := fun k q h => by simp at h
  have hD : va_D A [] := ⟨fun i j p q h => by simp at h, fun k q h => by simp at h⟩
  have hl := lv_entry ([.ref (xa 0), .int a]) (n := 5) (Nat.le_of_ble_eq_true rfl)
  rw [show entryFrame m args 5 = entryFrame m ([.ref (xa 0), .int a] : List Value).toArray 5 from by rw [hav], lg_entry_eq]
  generalize (lg_sl ([.ref (xa 0), .int a]) ++ List.replicate (5 - (lg_sl ([.ref (xa 0), .int a])).length) Slot.unset).toArray = ls at hl ⊢
  have hl : lv_has ls 5 [(0, .ref (xa 0)), (1, .int a)] := hl
  generalize hQe : vx_MQ below _ _ _ s _ _ _ = Q
  change W p l e ({ frames := 11, cells := 70, slots := 1100, locals := 660 } : Room) s m args below meth c s.heap [] 0 0 Q (F0 m 0 ls [])
  have hn := hAG.1
  have h5 := pow5 hn
  have hR2 := hAG.2.1
  refine lv_iconst (v := nI 1) hx hb dX1_isVersor_0 (by decide) ?_
  refine a_newa (D := (dC, dI)) (atype := .int) (N' := 1) (a0 := (1, .inl (fun _ => 0))) hx hb (hts _ q230) rfl hK hP hD hS hA 0 rfl (fun _ => ra_int) (fun _ => rfl) (by decide) (by decide) (by decide) (by first | decide | omega) (by first | decide | omega) dX1_isVersor_1 (fun na_1 H locs hP hD hS => ?_)
  have hP : va_P (dC, dI) vwCl [(na_1, .inl (dA 0, 1, .inl (fun _ => 0)))] H := hP
  have hD : va_D A [(na_1, .inl (dA 0, 1, .inl (fun _ => 0)))] := hD
  refine lv_dup hx hb dX1_isVersor_3 rfl ?_
  refine lv_iconst (v := nI 0) hx hb dX1_isVersor_4 (by decide) ?_
  refine lv_iload_n hx hb dX1_isVersor_5 rfl (lv_at hl 1 rfl) ?_
  refine a_iast hx hb hK hP hD hS 0 0 rfl rfl (by omega) (by omega) dX1_isVersor_6 (fun H locs hP hD hS => ?_)
  have hP : va_P (dC, dI) vwCl [(na_1, .inl (dA 0, 1, .inl (upd (fun _ => 0) 0 a)))] H := hP
  have hD : va_D A [(na_1, .inl (dA 0, 1, .inl (upd (fun _ => 0) 0 a)))] := hD
  have hF9 := va_free (wc := []) hD hS (fun q h => hA q h) [] rfl
  refine x_v (wc := []) (wr := [(na_1, .inl (dA 0, 1, .inl (upd (fun _ => 0) 0 a)))]) (vx_runS (As := [.ref na_1]) (rest := []) ⟨hx, hb, hml, hown, hts⟩ (x1_registers Z (va_A [] H.size) H.size (fun q h => Or.inr h) Y na_1 1 (upd (fun _ => 0) 0 a) (by decide)) (va_cwS 1 hts (lw_S q469 q470 q96 q471) rfl rfl rfl (by decide +kernel) ⟨Nat.le_of_ble_eq_true rfl, Nat.le_of_ble_eq_true rfl⟩) (gP_S hG hS (fun q _ h => hF9 q h) ⟨rfl, (RO.beside (wr := [(na_1, .inl (dA 0, 1, .inl (upd (fun _ => 0) 0 a)))]) hP hD [] [0] rfl rfl (by decide))⟩) rfl rfl hl.1 rfl (lv_room (Nat.le_of_ble_eq_true rfl)) dX1_isVersor_7 ⟨by first | decide | omega | (show _ ≤ (70 : Nat); omega), by first | decide | omega | (show _ ≤ (1100 : Nat); omega)⟩) hP hD hS hA [] [0] rfl rfl (by decide) (by decide) (fun E ce q9 u9 t9 H locs ht9 hp9 hb9 hz hP hS h1 h2 h3 => ?_) (fun u9 H locs hq hX hz hk hP hD hS => ?_)
  · have hD := hD.sub (ws' := [(na_1, .inl (dA 0, 1, .inl (upd (fun _ => 0) 0 a)))]) [0] (by decide) rfl
    have hP : va_P (dC, dI) vwCl [(na_1, .inl (dA 0, 1, .inl (upd (fun _ => 0) 0 a)))] H := hP
    have hD : va_D A [(na_1, .inl (dA 0, 1, .inl (upd (fun _ => 0) 0 a)))] := hD
    subst hb9
    subst hQe
    exact vx_outP hown hlocks (by rw [hxt]; exact (List.forall_mem_cons.mpr ⟨Or.inl (by decide), (List.forall_mem_cons.mpr ⟨Or.inl (by decide), (fun _ h => nomatch h)⟩)⟩)) h1 h2 h3 (fun t10 e10 _ => ⟨(), trivial, (Or.inl (⟨rfl, ver_1 (rgs1.symm.trans hp9)⟩)), hS.F e10⟩) hS.2.2 (by first | decide | omega) (by first | decide | omega)
  have hrg : (rgB a) = true := rgs1.symm.trans hq
  clear hq
  have hP : va_P (dC, dI) vwCl [(na_1, .inl (dA 0, 1, .inl (upd (fun _ => 0) 0 a)))] H := hP
  have hD : va_D A [(na_1, .inl (dA 0, 1, .inl (upd (fun _ => 0) 0 a)))] := hD
  have hP0 := hP.sub (ws' := []) [] rfl
  have hD0 := hD.sub (ws' := []) [] (by decide) rfl
  have h8ja := inB_nat (by decide) (show inB a (nI 0) (nI 7) = true from hrg)
  obtain ⟨ja, h9ja, e8ja⟩ := h8ja
  have h7ja : ja < 8 := by omega
  subst e8ja
  have hP := hP0
  have hD := hD0
  refine lv_aload_n hx hb dX1_isVersor_10 rfl (lv_at hl 0 rfl) ?_
  refine va_get (D := (dC, dI)) (ci := 3) (v := .ref (xa 3)) (C := RX1) (T := TX1) (N := 9) hx hb hts in_X1 hown hK (hR0.up hS) 0 rfl rfl 2 (by decide) (hts _ q286) (fun _ h9 => h9) rfl dX1_isVersor_11 ?_
  refine va_getN (D := (dC, dI)) (ci := 4) (v := .ref (xa 7)) (C := RX4) (T := TX4) (N := 2) hx hb hts in_X4 hown hK (hR0.up hS) 1 rfl rfl 1 (by decide) (((va_Nw.warmF hG.1 (va_Nw.of rfl (Z.2.1 _ q243)))).use rfl) (fun _ h9 => h9) rfl dX1_isVersor_14 ?_
  refine lv_iload_n hx hb dX1_isVersor_17 rfl (lv_at hl 1 rfl) ?_
  refine a_aldq hx hb hK (hR1.up hS) 0 4 rfl rfl (by omega) (by decide) dX1_isVersor_18 ?_
  refine e_v (y := .ref (rm ja)) (rfl) ?_
  have hR3 := hRG ja (by omega)
  refine lv_astore_n (lv' := [(2, .ref (rm ja)), (0, .ref (xa 0)), (1, .int (nI ja))]) hx hb dX1_isVersor_19 rfl hl (by decide) rfl (fun ls hl => ?_)
  refine lv_aload_n hx hb dX1_isVersor_20 rfl (lv_at hl 0 rfl) ?_
  refine s_i (va_runS (As := [.ref (rm ja)]) (rest := []) ⟨hx, hb, hml, hown, hts⟩ (x1_isPure Z Y (rm ja) (rr ja) (Ms ja)) (va_cwS 1 hts (lw_S q1024 q1025 q96 q1026) rfl rfl rfl (by decide +kernel) ⟨Nat.le_of_ble_eq_true rfl, Nat.le_of_ble_eq_true rfl⟩) (gP_S hG hS (fun q _ h => h.elim) ((hR3.up hS).sub (ws' := [((rm ja), .inr (0, [.ref (rr ja), .long (Ms ja 0)])), ((rr ja), .inl (dA 1, 32, .inr (.inl (fun j => Ms ja (j + 1)))))]) [0, 1] rfl)) rfl rfl hl.1 rfl (lv_room (Nat.le_of_ble_eq_true rfl)) dX1_isVersor_21 ⟨by first | decide | omega | (show _ ≤ (70 : Nat); omega), by first | decide | omega | (show _ ≤ (1100 : Nat); omega)⟩) ?_
  refine lv_if_ne (tgt := 29) hx hb dX1_isVersor_24 (by decide) (fun c_24 => ?_) (fun c_24 => ?_)
  · have hmx := mix_f (bI_1 c_24)
    refine lv_aload_n hx hb dX1_isVersor_29 rfl (lv_at hl 1 rfl) ?_
    refine va_get (D := (dC, dI)) (ci := 3) (v := .ref (xa 3)) (C := RX1) (T := TX1) (N := 9) hx hb hts in_X1 hown hK (hR0.up hS) 0 rfl rfl 2 (by decide) (hts _ q286) (fun _ h9 => h9) rfl dX1_isVersor_30 ?_
    refine va_getN (D := (dC, dI)) (ci := 4) (v := .ref ga) (C := RX4) (T := TX4) (N := 2) hx hb hts in_X4 hown hK (hR0.up hS) 1 rfl rfl 0 (by decide) (((va_Nw.warmF hG.1 (va_Nw.of rfl (Z.2.1 _ q240)))).use rfl) (fun _ h9 => h9) rfl dX1_isVersor_33 ?_
    refine lv_aload_n hx hb dX1_isVersor_36 rfl (lv_at hl 0 rfl) ?_
    refine lv_aload_n hx hb dX1_isVersor_37 rfl (lv_at hl 0 rfl) ?_
    have hF9 := va_free (wc := []) hD hS (fun q h => hA q h) [] rfl
    refine c_r (wr := []) (va_runS (As := [.ref (rm ja)]) (rest := [.ref (rm ja), .ref ga]) ⟨hx, hb, hml, hown, hts⟩ (x1_reverse Z (va_A [] H.size) H.size (fun q h => Or.inr h) Y p0 q0 r0 (rm ja) (rr ja) (Ms ja) hn (sR ja (by omega)) (pR ja (by omega))) (va_cwS 1 hts (lw_S q1028 q754 q96 q755) rfl rfl rfl (by decide +kernel) ⟨Nat.le_of_ble_eq_true rfl, Nat.le_of_ble_eq_true rfl⟩) (gP_S hG hS (fun q _ h => hF9 q h) ⟨rfl, (hR3.to hS (fun q _ h => hF9 q h))⟩) rfl rfl hl.1 rfl (lv_room (Nat.le_of_ble_eq_true rfl)) dX1_isVersor_38 ⟨by first | decide | omega | (show _ ≤ (70 : Nat); omega), by first | decide | omega | (show _ ≤ (1100 : Nat); omega)⟩) hP hD hS hA [] [] rfl rfl (by decide) (by decide) (fun u9 ra9 H locs hq hX hz hk hP hD hS => ?_)
    obtain ⟨ra_2, rfl⟩ : ∃ z, z = ra9 := ⟨_, rfl⟩
    obtain ⟨mr_2, rfl⟩ : ∃ z, z = u9 := ⟨_, rfl⟩
    have hP : va_P (dC, dI) vwCl [(ra_2, .inr (0, [.ref mr_2, .long ((trnS 0 p0 q0 r0 (Ms ja)) 0)])), (mr_2, .inl (dA 1, 32, .inr (.inl (fun j => (trnS 0 p0 q0 r0 (Ms ja)) (j + 1)))))] H := hP
    have hD : va_D A [(ra_2, .inr (0, [.ref mr_2, .long ((trnS 0 p0 q0 r0 (Ms ja)) 0)])), (mr_2, .inl (dA 1, 32, .inr (.inl (fun j => (trnS 0 p0 q0 r0 (Ms ja)) (j + 1)))))] := hD
    have hF9 := va_free (wc := []) hD hS (fun q h => hA q h) [] rfl
    refine x_r (wc := []) (wr := [(ra_2, .inr (0, [.ref mr_2, .long ((trnS 0 p0 q0 r0 (Ms ja)) 0)])), (mr_2, .inl (dA 1, 32, .inr (.inl (fun j => (trnS 0 p0 q0 r0 (Ms ja)) (j + 1)))))]) (vx_runV (As := [.ref (rm ja), .ref ra_2]) (rest := []) ⟨hx, hb, hml, hown, hts⟩ (x5_product2 Z (va_A [] H.size) H.size (fun q h => Or.inr h) Y ga sg sr p0 q0 r0 (rm ja) (rr ja) (Ms ja) ra_2 mr_2 (trnS 0 p0 q0 r0 (Ms ja)) (sR ja (by omega)) (trnS_sm hn (sR ja (by omega)))) (cwV 2 hts (lw_V q859 q652 q653 q101 q654) rfl rfl rfl (by decide +kernel) ⟨Nat.le_of_ble_eq_true rfl, Nat.le_of_ble_eq_true rfl⟩) (gP_V (va_recv hK (hR2.up hS) (ci := 1) (q0 := 0) rfl rfl) hG hS (fun q _ h => hF9 q h) ⟨rfl, (hR3.to hS (fun q _ h => hF9 q h)), (RO.beside (wr := [(ra_2, .inr (0, [.ref mr_2, .long ((trnS 0 p0 q0 r0 (Ms ja)) 0)])), (mr_2, .inl (dA 1, 32, .inr (.inl (fun j => (trnS 0 p0 q0 r0 (Ms ja)) (j + 1)))))]) hP hD [] [0, 1] rfl rfl (by decide)), (hAG.to hS (fun q _ h => hF9 q h))⟩) rfl rfl hl.1 rfl (lv_room (Nat.le_of_ble_eq_true rfl)) dX1_isVersor_41 ⟨by first | decide | omega | (show _ ≤ (70 : Nat); omega), by first | decide | omega | (show _ ≤ (1100 : Nat); omega)⟩) hP hD hS hA [] [0, 1] rfl rfl (by decide) (by decide) (fun E ce q9 u9 t9 H locs ht9 hp9 hb9 hz hP hS h1 h2 h3 => ?_) (fun u9 ra9 H locs hq hX hz hk hP hD hS => ?_)
    · have hD := hD.sub (ws' := [(ra_2, .inr (0, [.ref mr_2, .long ((trnS 0 p0 q0 r0 (Ms ja)) 0)])), (mr_2, .inl (dA 1, 32, .inr (.inl (fun j => (trnS 0 p0 q0 r0 (Ms ja)) (j + 1)))))]) [0, 1] (by decide) rfl
      have hP : va_P (dC, dI) vwCl [(ra_2, .inr (0, [.ref mr_2, .long ((trnS 0 p0 q0 r0 (Ms ja)) 0)])), (mr_2, .inl (dA 1, 32, .inr (.inl (fun j => (trnS 0 p0 q0 r0 (Ms ja)) (j + 1)))))] H := hP
      have hD : va_D A [(ra_2, .inr (0, [.ref mr_2, .long ((trnS 0 p0 q0 r0 (Ms ja)) 0)])), (mr_2, .inl (dA 1, 32, .inr (.inl (fun j => (trnS 0 p0 q0 r0 (Ms ja)) (j + 1)))))] := hD
      subst hb9
      refine vx_catch (name := "BladeAlgebra$Unfit") (E := "BladeAlgebra$Unfit") (ce := ce) hown [] ⟨29, 51, 102, 179⟩ [⟨52, 101, 102, 179⟩] hxt (fun _ h => nomatch h) (by decide) (by decide) (hts _ q468) (castZ Z hG q523) h1 h2 h3 ?_
      have hpU := hp9
      refine lv_astore_n (lv' := [(3, .ref q9), (2, .ref (rm ja)), (0, .ref (xa 0)), (1, .int (nI ja))]) hx hb dX1_isVersor_102 rfl hl (by decide) rfl (fun ls hl => ?_)
      have hF9 := va_free (wc := []) hD hS (fun q h => hA q h) [] rfl
      refine c_r (wr := [(ra_2, .inr (0, [.ref mr_2, .long ((trnS 0 p0 q0 r0 (Ms ja)) 0)])), (mr_2, .inl (dA 1, 32, .inr (.inl (fun j => (trnS 0 p0 q0 r0 (Ms ja)) (j + 1)))))]) (va_runS (As := []) (rest := []) ⟨hx, hb, hml, hown, hts⟩ (x1_large Z (va_A [] H.size) H.size (fun q h => Or.inr h) Y) (va_cwS 0 hts (lw_S q562 q563 q96 q564) rfl rfl rfl (by decide +kernel) ⟨Nat.le_of_ble_eq_true rfl, Nat.le_of_ble_eq_true rfl⟩) (gP_S hG hS (fun q _ h => hF9 q h) rfl) rfl rfl hl.1 rfl (lv_room (Nat.le_of_ble_eq_true rfl)) dX1_isVersor_103 ⟨by first | decide | omega | (show _ ≤ (70 : Nat); omega), by first | decide | omega | (show _ ≤ (1100 : Nat); omega)⟩) hP hD hS hA [] [0, 1] rfl rfl (by decide) (by decide) (fun u9 ra9 H locs hq hX hz hk hP hD hS => ?_)
      obtain ⟨ra_3, rfl⟩ : ∃ z, z = ra9 := ⟨_, rfl⟩
      have hP : va_P (dC, dI) vwCl [(ra_2, .inr (0, [.ref mr_2, .long ((trnS 0 p0 q0 r0 (Ms ja)) 0)])), (mr_2, .inl (dA 1, 32, .inr (.inl (fun j => (trnS 0 p0 q0 r0 (Ms ja)) (j + 1))))), (ra_3, .inr (17, []))] H := hP
      have hD : va_D A [(ra_2, .inr (0, [.ref mr_2, .long ((trnS 0 p0 q0 r0 (Ms ja)) 0)])), (mr_2, .inl (dA 1, 32, .inr (.inl (fun j => (trnS 0 p0 q0 r0 (Ms ja)) (j + 1))))), (ra_3, .inr (17, []))] := hD
      refine vx_athrow hx hb dX1_isVersor_106 ?_
      obtain ⟨ce, h1, h2, h3⟩ := va_thr hK hP (ci := 17) (q0 := 2) rfl rfl
      subst hQe
      exact vx_outP hown hlocks (by rw [hxt]; exact (List.forall_mem_cons.mpr ⟨Or.inl (by decide), (List.forall_mem_cons.mpr ⟨Or.inl (by decide), (fun _ h => nomatch h)⟩)⟩)) h1 h2 h3 (fun t10 e10 _ => ⟨(), trivial, (Or.inr (⟨rfl, ver_x h7ja hmx hpU⟩)), hS.F e10⟩) hS.2.2 (by first | decide | omega) (by first | decide | omega)
    obtain ⟨ra_4, rfl⟩ : ∃ z, z = ra9 := ⟨_, rfl⟩
    obtain ⟨mr_4, M_4⟩ := u9
    have e_4 := hq
    have sm_4 : MSm M_4 := mulS_sm (sR ja (by omega)) (trnS_sm hn (sR ja (by omega))) e_4
    clear hq
    have hP : va_P (dC, dI) vwCl [(ra_2, .inr (0, [.ref mr_2, .long ((trnS 0 p0 q0 r0 (Ms ja)) 0)])), (mr_2, .inl (dA 1, 32, .inr (.inl (fun j => (trnS 0 p0 q0 r0 (Ms ja)) (j + 1))))), (ra_4, .inr (0, [.ref mr_4, .long (M_4 0)])), (mr_4, .inl (dA 1, 32, .inr (.inl (fun j => M_4 (j + 1)))))] H := hP
    have hD : va_D A [(ra_2, .inr (0, [.ref mr_2, .long ((trnS 0 p0 q0 r0 (Ms ja)) 0)])), (mr_2, .inl (dA 1, 32, .inr (.inl (fun j => (trnS 0 p0 q0 r0 (Ms ja)) (j + 1))))), (ra_4, .inr (0, [.ref mr_4, .long (M_4 0)])), (mr_4, .inl (dA 1, 32, .inr (.inl (fun j => M_4 (j + 1)))))] := hD
    obtain ⟨gr, Yg⟩ : ∃ g, SG (dC, dI) dA g s0 := ⟨_, SS.gr Y⟩
    refine s_i (va_runV (As := []) (rest := []) ⟨hx, hb, hml, hown, hts⟩ (x6_isOtherScalar Z gr Yg ra_4 mr_4 M_4) (cwV 0 hts (lw_V q1029 q768 q769 q102 q770) rfl rfl rfl (by decide +kernel) ⟨Nat.le_of_ble_eq_true rfl, Nat.le_of_ble_eq_true rfl⟩) (gP_V (va_recv hK hP (ci := 0) (q0 := 2) rfl rfl) hG hS (fun q _ h => h.elim) (hP.sub (ws' := [(ra_4, .inr (0, [.ref mr_4, .long (M_4 0)])), (mr_4, .inl (dA 1, 32, .inr (.inl (fun j => M_4 (j + 1)))))]) [2, 3] rfl)) rfl rfl hl.1 rfl (lv_room (Nat.le_of_ble_eq_true rfl)) dX1_isVersor_44 ⟨by first | decide | omega | (show _ ≤ (70 : Nat); omega), by first | decide | omega | (show _ ≤ (1100 : Nat); omega)⟩) ?_
    refine e_i (y := bI (isNumB M_4 32)) (congrArg bI (num_gr _)) ?_
    refine lv_if_ne (tgt := 52) hx hb dX1_isVersor_47 (by decide) (fun c_47 => ?_) (fun c_47 => ?_)
    · have hnm := bI_1 c_47
      refine lv_iconst (v := nI 1) hx hb dX1_isVersor_52 (by decide) ?_
      refine lv_istore_n (lv' := [(3, .int (nI 1)), (2, .ref (rm ja)), (0, .ref (xa 0)), (1, .int (nI ja))]) hx hb dX1_isVersor_53 rfl hl (by decide) rfl (fun ls hl => ?_)
      refine lv_iconst (v := nI 0) hx hb dX1_isVersor_54 (by decide) ?_
      refine lv_istore (lv' := [(4, .int (nI 0)), (3, .int (nI 1)), (2, .ref (rm ja)), (0, .ref (xa 0)), (1, .int (nI ja))]) hx hb dX1_isVersor_55 hl (by decide) rfl (fun ls hl => ?_)
      refine W.widen (k := 8 + 10 * 0) (n := 120 + 182 * 0) (by decide) (by decide) ?_
      have loop_5 : ∀ (n9_5 : Nat) (kv : Nat) (bb : Bool) (H : Heap) (locs : List Loc) (ls : Array Slot), 6 - kv < n9_5 → (kv ≤ p0 + q0 + r0) → (verN p0 q0 r0 (Ms ja) M_4 kv = some bb) → va_P (dC, dI) vwCl [] H → va_D A [] → va_S A s.heap H locs → lv_has ls 5 [(0, .ref (xa 0)), (1, .int (nI ja)), (2, .ref (rm ja)), (3, .int (bI bb)), (4, .int (nI kv))] → W p l e ({ frames := 11, cells := 70, slots := 1100, locals := 660 } : Room) s m args below meth c H locs (8 + 10 * kv) (120 + 182 * kv) Q (F0 m 57 ls []) := by
        intro n9_5
        induction n9_5 with
        | zero => intro kv bb H locs ls hm_5; exact absurd hm_5 (Nat.not_lt_zero _)
        | succ n9_5 ih_5 =>
          intro kv bb H locs ls hm_5 hkv hvn hP hD hS hl
          refine lv_iload hx hb dX1_isVersor_57 (lv_at hl 4 rfl) ?_
          refine lv_aload_n hx hb dX1_isVersor_59 rfl (lv_at hl 0 rfl) ?_
          refine va_get (D := (dC, dI)) (ci := 3) (v := .ref (xa 3)) (C := RX1) (T := TX1) (N := 9) hx hb hts in_X1 hown hK (hR0.up hS) 0 rfl rfl 2 (by decide) (hts _ q286) (fun _ h9 => h9) rfl dX1_isVersor_60 ?_
          refine va_getN (D := (dC, dI)) (ci := 4) (v := .ref ga) (C := RX4) (T := TX4) (N := 2) hx hb hts in_X4 hown hK (hR0.up hS) 1 rfl rfl 0 (by decide) (((va_Nw.warmF hG.1 (va_Nw.of rfl (Z.2.1 _ q240)))).use rfl) (fun _ h9 => h9) rfl dX1_isVersor_63 ?_
          refine va_getN (D := (dC, dI)) (ci := 1) (v := .int (nI (p0 + q0 + r0))) (C := RX5) (T := TX5) (N := 6) hx hb hts in_X5 hown hK (hR2.up hS) 0 rfl rfl 3 (by decide) (((va_Nw.warmF hG.1 (va_Nw.of rfl (Z.2.1 _ q209)))).use rfl) (fun _ h9 => h9) rfl dX1_isVersor_66 ?_
          refine lv_icmp_ge (tgt := 100) hx hb dX1_isVersor_69 (by decide) (fun c_69 => ?_) (fun c_69 => ?_)
          · have c_69 : (p0 + q0 + r0) ≤ kv := (nI_leI (a := (p0 + q0 + r0)) (b := kv) (by omega) (by omega)).mp c_69
            obtain rfl : kv = p0 + q0 + r0 := by omega
            refine lv_iload_n hx hb dX1_isVersor_100 rfl (lv_at hl 3 rfl) ?_
            subst hQe
            refine vx_ret ?_
            refine W.widen (k := 70) (n := 1100) (by first | decide | omega) (by first | decide | omega) ?_
            exact W.zret (v := bI bb) hx hb hr (bI_z _) (fun tz ht hW => ⟨⟨_, (), rfl, (ver_ok h7ja hmx e_4 hvn), B1_at ht (hP.sub [] rfl) (hD.sub [] (by decide) rfl) trivial⟩, hS.F ht⟩) hS.2.2 dX1_isVersor_101
          · have c_69 : ¬ (p0 + q0 + r0) ≤ kv := fun h => c_69 ((nI_leI (a := (p0 + q0 + r0)) (b := kv) (by omega) (by omega)).mpr h)
            refine lv_iload_n hx hb dX1_isVersor_72 rfl (lv_at hl 3 rfl) ?_
            refine lv_if_eq (tgt := 100) hx hb dX1_isVersor_73 (by decide) (fun c_73 => ?_) (fun c_73 => ?_)
            · obtain rfl := bI_0 c_73
              refine lv_iload_n hx hb dX1_isVersor_100 rfl (lv_at hl 3 rfl) ?_
              subst hQe
              refine vx_ret ?_
              refine W.widen (k := 70) (n := 1100) (by first | decide | omega) (by first | decide | omega) ?_
              exact W.zret (v := bI false) hx hb hr (bI_z _) (fun tz ht hW => ⟨⟨_, (), rfl, (ver_ok h7ja hmx e_4 (verN_f hvn (by omega))), B1_at ht (hP.sub [] rfl) (hD.sub [] (by decide) rfl) trivial⟩, hS.F ht⟩) hS.2.2 dX1_isVersor_101
            · obtain rfl := bI_1 c_73
              have hvn8 := hvn
              have h2k := p5 (show kv < 5 by omega)
              have h2n := pow_lt' (show kv < p0 + q0 + r0 by omega)
              refine lv_aload_n hx hb dX1_isVersor_76 rfl (lv_at hl 0 rfl) ?_
              refine lv_aload_n hx hb dX1_isVersor_77 rfl (lv_at hl 2 rfl) ?_
              refine lv_iconst (v := nI 1) hx hb dX1_isVersor_78 (by decide) ?_
              refine lv_iload hx hb dX1_isVersor_79 (lv_at hl 4 rfl) ?_
              refine lv_ishl hx hb dX1_isVersor_81 ?_
              refine e_i (y := nI (2 ^ kv)) (n_shl1 (by omega)) ?_
              refine lv_lconst (v := 1) hx hb dX1_isVersor_82 rfl ?_
              refine lv_lconst (v := 1) hx hb dX1_isVersor_83 rfl ?_
              have hF9 := va_free (wc := []) hD hS (fun q h => hA q h) [] rfl
              refine x_r (wc := []) (wr := []) (vx_runS (As := [.int (nI (2 ^ kv)), .long 1, .long 1]) (rest := [.ref (rm ja), .ref (xa 0)]) ⟨hx, hb, hml, hown, hts⟩ (x6_of Z (va_A [] H.size) H.size (fun q h => Or.inr h) Y (2 ^ kv) 1 1 (by omega) (by decide) (by decide) (by decide)) (va_cwS 3 hts (lw_S q858 q819 q102 q820) rfl rfl rfl (by decide +kernel) ⟨Nat.le_of_ble_eq_true rfl, Nat.le_of_ble_eq_true rfl⟩) (gP_S hG hS (fun q _ h => hF9 q h) rfl) rfl rfl hl.1 rfl (lv_room (Nat.le_of_ble_eq_true rfl)) dX1_isVersor_84 ⟨by first | decide | omega | (show _ ≤ (70 : Nat); omega), by first | decide | omega | (show _ ≤ (1100 : Nat); omega)⟩) hP hD hS hA [] [] rfl rfl (by decide) (by decide) (fun E ce q9 u9 t9 H locs ht9 hp9 hb9 hz hP hS h1 h2 h3 => ?_) (fun u9 ra9 H locs hq hX hz hk hP hD hS => ?_)
              · have hD := hD.sub (ws' := []) [] (by decide) rfl
                have hP : va_P (dC, dI) vwCl [] H := hP
                have hD : va_D A [] := hD
                subst hb9
                rw [of_basM h2k] at hp9; cases hp9
              obtain ⟨ra_6, rfl⟩ : ∃ z, z = ra9 := ⟨_, rfl⟩
              obtain ⟨mr_6, M_6⟩ := u9
              have e_6 := hq
              have sm_6 : MSm M_6 := fitG_sm (by decide) (by decide) e_6
              clear hq
              have hP : va_P (dC, dI) vwCl [(ra_6, .inr (0, [.ref mr_6, .long (M_6 0)])), (mr_6, .inl (dA 1, 32, .inr (.inl (fun j => M_6 (j + 1)))))] H := hP
              have hD : va_D A [(ra_6, .inr (0, [.ref mr_6, .long (M_6 0)])), (mr_6, .inl (dA 1, 32, .inr (.inl (fun j => M_6 (j + 1)))))] := hD
              obtain rfl : M_6 = basM (2 ^ kv) := Option.some.inj (e_6.symm.trans (of_basM h2k))
              have hF9 := va_free (wc := []) hD hS (fun q h => hA q h) [] rfl
              refine x_r (wc := []) (wr := [(ra_6, .inr (0, [.ref mr_6, .long ((basM (2 ^ kv)) 0)])), (mr_6, .inl (dA 1, 32, .inr (.inl (fun j => (basM (2 ^ kv)) (j + 1)))))]) (vx_runV (As := [.ref (rm ja), .ref ra_6]) (rest := []) ⟨hx, hb, hml, hown, hts⟩ (x1_sandwich Z (va_A [] H.size) H.size (fun q h => Or.inr h) Y xa tl ec ep ga sg sr p0 q0 r0 0 (rm ja) (rr ja) (Ms ja) ra_6 mr_6 (basM (2 ^ kv)) (sR ja (by omega)) (pR ja (by omega)) sm_6 (basM_sp h2n)) (cwV 2 hts (lw_V q1049 q1051 qs11 q96 q1052) rfl rfl rfl (by decide +kernel) ⟨Nat.le_of_ble_eq_true rfl, Nat.le_of_ble_eq_true rfl⟩) (gP_V (va_recv hK (hR0.up hS) (ci := 3) (q0 := 0) rfl rfl) hG hS (fun q _ h => hF9 q h) ⟨rfl, (hR0.to hS (fun q _ h => hF9 q h)), (hR3.to hS (fun q _ h => hF9 q h)), (RO.beside (wr := [(ra_6, .inr (0, [.ref mr_6, .long ((basM (2 ^ kv)) 0)])), (mr_6, .inl (dA 1, 32, .inr (.inl (fun j => (basM (2 ^ kv)) (j + 1)))))]) hP hD [] [0, 1] rfl rfl (by decide)), (hAG.to hS (fun q _ h => hF9 q h))⟩) rfl rfl hl.1 rfl (lv_room (Nat.le_of_ble_eq_true rfl)) dX1_isVersor_87 ⟨by first | decide | omega | (show _ ≤ (70 : Nat); omega), by first | decide | omega | (show _ ≤ (1100 : Nat); omega)⟩) hP hD hS hA [] [0, 1] rfl rfl (by decide) (by decide) (fun E ce q9 u9 t9 H locs ht9 hp9 hb9 hz hP hS h1 h2 h3 => ?_) (fun u9 ra9 H locs hq hX hz hk hP hD hS => ?_)
              · have hD := hD.sub (ws' := [(ra_6, .inr (0, [.ref mr_6, .long ((basM (2 ^ kv)) 0)])), (mr_6, .inl (dA 1, 32, .inr (.inl (fun j => (basM (2 ^ kv)) (j + 1)))))]) [0, 1] (by decide) rfl
                have hP : va_P (dC, dI) vwCl [(ra_6, .inr (0, [.ref mr_6, .long ((basM (2 ^ kv)) 0)])), (mr_6, .inl (dA 1, 32, .inr (.inl (fun j => (basM (2 ^ kv)) (j + 1)))))] H := hP
                have hD : va_D A [(ra_6, .inr (0, [.ref mr_6, .long ((basM (2 ^ kv)) 0)])), (mr_6, .inl (dA 1, 32, .inr (.inl (fun j => (basM (2 ^ kv)) (j + 1)))))] := hD
                subst hb9
                refine vx_catch (name := "BladeAlgebra$Unfit") (E := "BladeAlgebra$Unfit") (ce := ce) hown [⟨29, 51, 102, 179⟩] ⟨52, 101, 102, 179⟩ [] hxt (List.forall_mem_cons.mpr ⟨Or.inl (by decide), (fun _ h => nomatch h)⟩) (by decide) (by decide) (hts _ q468) (castZ Z hG q523) h1 h2 h3 ?_
                have hpU := hp9
                refine lv_astore_n (lv' := [(3, .ref q9), (0, .ref (xa 0)), (1, .int (nI ja)), (2, .ref (rm ja)), (4, .int (nI kv))]) hx hb dX1_isVersor_102 rfl hl (by decide) rfl (fun ls hl => ?_)
                have hF9 := va_free (wc := []) hD hS (fun q h => hA q h) [] rfl
                refine c_r (wr := [(ra_6, .inr (0, [.ref mr_6, .long ((basM (2 ^ kv)) 0)])), (mr_6, .inl (dA 1, 32, .inr (.inl (fun j => (basM (2 ^ kv)) (j + 1)))))]) (va_runS (As := []) (rest := []) ⟨hx, hb, hml, hown, hts⟩ (x1_large Z (va_A [] H.size) H.size (fun q h => Or.inr h) Y) (va_cwS 0 hts (lw_S q562 q563 q96 q564) rfl rfl rfl (by decide +kernel) ⟨Nat.le_of_ble_eq_true rfl, Nat.le_of_ble_eq_true rfl⟩) (gP_S hG hS (fun q _ h => hF9 q h) rfl) rfl rfl hl.1 rfl (lv_room (Nat.le_of_ble_eq_true rfl)) dX1_isVersor_103 ⟨by first | decide | omega | (show _ ≤ (70 : Nat); omega), by first | decide | omega | (show _ ≤ (1100 : Nat); omega)⟩) hP hD hS hA [] [0, 1] rfl rfl (by decide) (by decide) (fun u9 ra9 H locs hq hX hz hk hP hD hS => ?_)
                obtain ⟨ra_7, rfl⟩ : ∃ z, z = ra9 := ⟨_, rfl⟩
                have hP : va_P (dC, dI) vwCl [(ra_6, .inr (0, [.ref mr_6, .long ((basM (2 ^ kv)) 0)])), (mr_6, .inl (dA 1, 32, .inr (.inl (fun j => (basM (2 ^ kv)) (j + 1))))), (ra_7, .inr (17, []))] H := hP
                have hD : va_D A [(ra_6, .inr (0, [.ref mr_6, .long ((basM (2 ^ kv)) 0)])), (mr_6, .inl (dA 1, 32, .inr (.inl (fun j => (basM (2 ^ kv)) (j + 1))))), (ra_7, .inr (17, []))] := hD
                refine vx_athrow hx hb dX1_isVersor_106 ?_
                obtain ⟨ce, h1, h2, h3⟩ := va_thr hK hP (ci := 17) (q0 := 2) rfl rfl
                subst hQe
                exact vx_outP hown hlocks (by rw [hxt]; exact (List.forall_mem_cons.mpr ⟨Or.inl (by decide), (List.forall_mem_cons.mpr ⟨Or.inl (by decide), (fun _ h => nomatch h)⟩)⟩)) h1 h2 h3 (fun t10 e10 _ => ⟨(), trivial, (Or.inr (⟨rfl, ver_n h7ja hmx e_4 (verN_n (ver_z hvn8 hpU) (by omega))⟩)), hS.F e10⟩) hS.2.2 (by first | decide | omega) (by first | decide | omega)
              obtain ⟨ra_8, rfl⟩ : ∃ z, z = ra9 := ⟨_, rfl⟩
              obtain ⟨mr_8, M_8⟩ := u9
              have e_8 := hq
              have sm_8 : MSm M_8 := sndS_sm hn (sR ja (by omega)) sm_6 e_8
              clear hq
              have hP : va_P (dC, dI) vwCl [(ra_6, .inr (0, [.ref mr_6, .long ((basM (2 ^ kv)) 0)])), (mr_6, .inl (dA 1, 32, .inr (.inl (fun j => (basM (2 ^ kv)) (j + 1))))), (ra_8, .inr (0, [.ref mr_8, .long (M_8 0)])), (mr_8, .inl (dA 1, 32, .inr (.inl (fun j => M_8 (j + 1)))))] H := hP
              have hD : va_D A [(ra_6, .inr (0, [.ref mr_6, .long ((basM (2 ^ kv)) 0)])), (mr_6, .inl (dA 1, 32, .inr (.inl (fun j => (basM (2 ^ kv)) (j + 1))))), (ra_8, .inr (0, [.ref mr_8, .long (M_8 0)])), (mr_8, .inl (dA 1, 32, .inr (.inl (fun j => M_8 (j + 1)))))] := hD
              obtain ⟨gr, Yg⟩ : ∃ g, SG (dC, dI) dA g s0 := ⟨_, SS.gr Y⟩
              refine s_i (va_runV (As := []) (rest := []) ⟨hx, hb, hml, hown, hts⟩ (x6_isVector Z gr Yg ra_8 mr_8 M_8) (cwV 0 hts (lw_V q915 q916 q917 q102 q918) rfl rfl rfl (by decide +kernel) ⟨Nat.le_of_ble_eq_true rfl, Nat.le_of_ble_eq_true rfl⟩) (gP_V (va_recv hK hP (ci := 0) (q0 := 2) rfl rfl) hG hS (fun q _ h => h.elim) (hP.sub (ws' := [(ra_8, .inr (0, [.ref mr_8, .long (M_8 0)])), (mr_8, .inl (dA 1, 32, .inr (.inl (fun j => M_8 (j + 1)))))]) [2, 3] rfl)) rfl rfl hl.1 rfl (lv_room (Nat.le_of_ble_eq_true rfl)) dX1_isVersor_90 ⟨by first | decide | omega | (show _ ≤ (70 : Nat); omega), by first | decide | omega | (show _ ≤ (1100 : Nat); omega)⟩) ?_
              refine e_i (y := bI (vecB M_8)) (rfl) ?_
              refine lv_istore_n (lv' := [(3, .int (bI (vecB M_8))), (0, .ref (xa 0)), (1, .int (nI ja)), (2, .ref (rm ja)), (4, .int (nI kv))]) hx hb dX1_isVersor_93 rfl hl (by decide) rfl (fun ls hl => ?_)
              refine lv_iinc (v := nI (kv + 1)) (lv' := [(4, .int (nI (kv + 1))), (3, .int (bI (vecB M_8))), (0, .ref (xa 0)), (1, .int (nI ja)), (2, .ref (rm ja))]) hx hb dX1_isVersor_94 hl (k := 4) rfl (by exact nI_add _ 1) (by decide) rfl (fun ls hl => ?_)
              refine lv_goto (tgt := 57) hx hb dX1_isVersor_97 (by decide) ?_
              refine W.widen (k := 8 + 10 * (kv + 1)) (n := 120 + 182 * (kv + 1)) (by omega) (by omega) ?_
              exact ih_5 (kv + 1) (vecB M_8) H locs ls (by omega) (by omega) (ver_s hvn8 e_8) (hP.sub [] rfl) (hD.sub [] (by decide) rfl) hS (lv_sub hl [2, 3, 4, 1, 0] rfl)
      exact loop_5 _ 0 true H locs ls (Nat.lt_succ_self _) (by omega) (by show some (isNumB _ 32) = _; rw [hnm]) (hP.sub [] rfl) (hD.sub [] (by decide) rfl) hS (lv_sub hl [3, 4, 2, 1, 0] rfl)
    · have hnm := bI_0 c_47
      refine lv_iconst (v := nI 0) hx hb dX1_isVersor_50 (by decide) ?_
      subst hQe
      refine vx_ret ?_
      refine W.widen (k := 70) (n := 1100) (by first | decide | omega) (by first | decide | omega) ?_
      exact W.zret (v := nI 0) hx hb hr rfl (fun tz ht hW => ⟨⟨_, (), rfl, (ver_ok h7ja hmx e_4 (verN_f (show verN p0 q0 r0 _ _ 0 = some false from by show some (isNumB _ 32) = _; rw [hnm]) (by omega))), B1_at ht (hP.sub [] rfl) (hD.sub [] (by decide) rfl) trivial⟩, hS.F ht⟩) hS.2.2 dX1_isVersor_51
  · have hmx := mix_t (bI_0 c_24)
    refine lv_iconst (v := nI 0) hx hb dX1_isVersor_27 (by decide) ?_
    subst hQe
    refine vx_ret ?_
    refine W.widen (k := 70) (n := 1100) (by first | decide | omega) (by first | decide | omega) ?_
    exact W.zret (v := nI 0) hx hb hr rfl (fun tz ht hW => ⟨⟨_, (), rfl, (ver_m h7ja hmx), B1_at ht (hP.sub [] rfl) (hD.sub [] (by decide) rfl) trivial⟩, hS.F ht⟩) hS.2.2 dX1_isVersor_28
set_option maxHeartbeats 4000000 in
theorem x1_rotor {l : Launch} {dC : Nat → ClassId} {dI : Nat → Nat → Nat} {dA : Nat → ClassId} {s0 : State} {b0 : Addr} (Z : Z0 l dC dI dA s0 b0) (A : Nat → Prop) (sz : Nat) (hA : ∀ q : Nat, sz ≤ q → A q) {σ : Nat → Nat} (Y : SS (dC, dI) dA σ s0) (xa : Nat → Nat) (tl : Nat) (ec ep : Int32) (ga sg : Nat) (sr : Nat → Nat) (p0 q0 r0 : Nat) (rm rr : Nat → Nat) (Ms : Nat → MV) (t a b : Int32) (sR : ∀ k, k < 8 → MSm (Ms k)) (pR : ∀ k, k < 8 → MSp (2 ^ (p0 + q0 + r0)) (Ms k)) (hAf : ∀ q, A q → q = xa 7 ∨ sz ≤ q) : vx_Met l yX1_rotor (wsW_ yX1_rotor cX1_rotor 9 (some .int) [((64 : Nat), (182 : Nat), (183 : Nat), (179 : Nat))]) ({ frames := 11, cells := 30, slots := 400, locals := 660 } : Room) (gP [.ref (xa 0), .int t, .int a, .int b] s0 A (fun H => H.size = sz ∧ va_P (dC, dI) vwCl [((xa 7), .inl (dA 4, 8, .inr (.inr (.inr (.inr (fun k => some (rm k)))))))] H ∧ va_D A [((xa 7), .inl (dA 4, 8, .inr (.inr (.inr (.inr (fun k => some (rm k)))))))] ∧ RO A (dC, dI) [((xa 0), .inr (3, xFs xa tl ec ep)), ((xa 3), .inr (4, [.ref ga, .ref (xa 7)]))] H ∧ AG A (dC, dI) dA ga sg sr p0 q0 r0 H ∧ RG A (dC, dI) dA rm rr Ms H)) (va_Qi (S := Nat × Nat × MV) (fun r9 u => rotX p0 q0 r0 Ms t a b = (nI 0, some u.2.2) ∧ r9 = nI (trmS u.2.2)) (B1 (dC, dI) A (fun u => [(xa 7, .inl (dA 4, 8, .inr (.inr (.inr (.inr (va_up (fun k => some (rm k)) (rg t) (some u.1)))))))]) (fun u H => NM (dC, dI) dA σ rm rr Ms sz u H)) A) (vx_X (S := Unit) (fun _ => True) (fun _ E _ t9 => ((E = "java/lang/IndexOutOfBoundsException" ∧ rotX p0 q0 r0 Ms t a b = (nI 1, none)) ∨ (E = "java/lang/IllegalStateException" ∧ rotX p0 q0 r0 Ms t a b = (nI 2, none)) ∨ (E = "java/lang/ArithmeticException" ∧ rotX p0 q0 r0 Ms t a b = (nI 3, none)) ∨ (E = "java/lang/UnsupportedOperationException" ∧ rotX p0 q0 r0 Ms t a b = (nI 4, none))) ∧ va_P (dC, dI) vwCl [((xa 7), .inl (dA 4, 8, .inr (.inr (.inr (.inr (fun k => some (rm k)))))))] t9.heap) A) 30 400 A := by
  refine vx_ofWH (cc := cX1_rotor) (maxL := 9) (ret := (some .int)) (by decide) rfl ?_
  intro p e s m args below meth c s₁ B hml hv
  obtain ⟨hav, hG, hsz, hP, hD, hR0, hAG, hRG⟩ := hv
  have hx := B.exec
  have hb := B.bytes
  have hr := B.returns
  have hts := atoms_spec (ws := (wsW_ yX1_rotor cX1_rotor 9 (some .int) [((64 : Nat), (182 : Nat), (183 : Nat), (179 : Nat))])) B.pre
  have hxt : c.exceptionTable.toList = [⟨64, 182, 183, 179⟩] := vx_table (x := yX1_rotor) (y := yX1_rotor) B (hts _ List.mem_cons_self)
  have hts : ∀ w ∈ lw_all, w.before _ s = true := fun w h => hts w (List.mem_cons_of_mem _ h)
  have hown : s.vm.findClass RX1 = some m.cls := findClass_of_methodNamed B.named
  have hlocks := B.notSynchronized
  have hK := hG.K Z
  subst hsz
  have hS : va_S A s.heap s.heap [] := va_S.rf
  have hl := lv_entry ([.ref (xa 0), .int t, .int a, .int b]) (n := 9) (Nat.le_of_ble_eq_true rfl)
  rw [show entryFrame m args 9 = entryFrame m ([.ref (xa 0), .int t, .int a, .int b] : List Value).toArray 9 from by rw [hav], lg_entry_eq]
  generalize (lg_sl ([.ref (xa 0), .int t, .int a, .int b]) ++ List.replicate (9 - (lg_sl ([.ref (xa 0), .int t, .int a, .int b])).length) Slot.unset).toArray = ls at hl ⊢
  have hl : lv_has ls 9 [(0, .ref (xa 0)), (1, .int t), (2, .int a), (3, .int b)] := hl
  generalize hQe : vx_MQ below _ _ _ s _ _ _ = Q
  change W p l e ({ frames := 11, cells := 30, slots := 400, locals := 660 } : Room) s m args below meth c s.heap [] 0 0 Q (F0 m 0 ls [])
  have hn := hAG.1
  have h5 := pow5 hn
  have hR1 := hAG.2.1
  refine lv_iconst (v := nI 3) hx hb dX1_rotor_0 (by decide) ?_
  refine a_newa (D := (dC, dI)) (atype := .int) (N' := 3) (a0 := (3, .inl (fun _ => 0))) hx hb (hts _ q230) rfl hK hP hD hS hA 0 rfl (fun _ => ra_int) (fun _ => rfl) (by decide) (by decide) (by decide) (by first | decide | omega) (by first | decide | omega) dX1_rotor_1 (fun na_1 H locs hP hD hS => ?_)
  have hP : va_P (dC, dI) vwCl [((xa 7), .inl (dA 4, 8, .inr (.inr (.inr (.inr (fun k => some (rm k))))))), (na_1, .inl (dA 0, 3, .inl (fun _ => 0)))] H := hP
  have hD : va_D A [((xa 7), .inl (dA 4, 8, .inr (.inr (.inr (.inr (fun k => some (rm k))))))), (na_1, .inl (dA 0, 3, .inl (fun _ => 0)))] := hD
  refine lv_dup hx hb dX1_rotor_3 rfl ?_
  refine lv_iconst (v := nI 0) hx hb dX1_rotor_4 (by decide) ?_
  refine lv_iload_n hx hb dX1_rotor_5 rfl (lv_at hl 1 rfl) ?_
  refine a_iast hx hb hK hP hD hS 1 0 rfl rfl (by omega) (by omega) dX1_rotor_6 (fun H locs hP hD hS => ?_)
  have hP : va_P (dC, dI) vwCl [((xa 7), .inl (dA 4, 8, .inr (.inr (.inr (.inr (fun k => some (rm k))))))), (na_1, .inl (dA 0, 3, .inl (upd (fun _ => 0) 0 t)))] H := hP
  have hD : va_D A [((xa 7), .inl (dA 4, 8, .inr (.inr (.inr (.inr (fun k => some (rm k))))))), (na_1, .inl (dA 0, 3, .inl (upd (fun _ => 0) 0 t)))] := hD
  refine lv_dup hx hb dX1_rotor_7 rfl ?_
  refine lv_iconst (v := nI 1) hx hb dX1_rotor_8 (by decide) ?_
  refine lv_iload_n hx hb dX1_rotor_9 rfl (lv_at hl 2 rfl) ?_
  refine a_iast hx hb hK hP hD hS 1 0 rfl rfl (by omega) (by omega) dX1_rotor_10 (fun H locs hP hD hS => ?_)
  have hP : va_P (dC, dI) vwCl [((xa 7), .inl (dA 4, 8, .inr (.inr (.inr (.inr (fun k => some (rm k))))))), (na_1, .inl (dA 0, 3, .inl (upd (upd (fun _ => 0) 0 t) 1 a)))] H := hP
  have hD : va_D A [((xa 7), .inl (dA 4, 8, .inr (.inr (.inr (.inr (fun k => some (rm k))))))), (na_1, .inl (dA 0, 3, .inl (upd (upd (fun _ => 0) 0 t) 1 a)))] := hD
  refine lv_dup hx hb dX1_rotor_11 rfl ?_
  refine lv_iconst (v := nI 2) hx hb dX1_rotor_12 (by decide) ?_
  refine lv_iload_n hx hb dX1_rotor_13 rfl (lv_at hl 3 rfl) ?_
  refine a_iast hx hb hK hP hD hS 1 0 rfl rfl (by omega) (by omega) dX1_rotor_14 (fun H locs hP hD hS => ?_)
  have hP : va_P (dC, dI) vwCl [((xa 7), .inl (dA 4, 8, .inr (.inr (.inr (.inr (fun k => some (rm k))))))), (na_1, .inl (dA 0, 3, .inl (upd (upd (upd (fun _ => 0) 0 t) 1 a) 2 b)))] H := hP
  have hD : va_D A [((xa 7), .inl (dA 4, 8, .inr (.inr (.inr (.inr (fun k => some (rm k))))))), (na_1, .inl (dA 0, 3, .inl (upd (upd (upd (fun _ => 0) 0 t) 1 a) 2 b)))] := hD
  have hF9 := va_free (wc := []) hD hS (fun q h => hA q h) [] rfl
  refine x_v (wc := []) (wr := [((xa 7), .inl (dA 4, 8, .inr (.inr (.inr (.inr (fun k => some (rm k))))))), (na_1, .inl (dA 0, 3, .inl (upd (upd (upd (fun _ => 0) 0 t) 1 a) 2 b)))]) (vx_runS (As := [.ref na_1]) (rest := []) ⟨hx, hb, hml, hown, hts⟩ (x1_registers Z (va_A [] H.size) H.size (fun q h => Or.inr h) Y na_1 3 (upd (upd (upd (fun _ => 0) 0 t) 1 a) 2 b) (by decide)) (va_cwS 1 hts (lw_S q469 q470 q96 q471) rfl rfl rfl (by decide +kernel) ⟨Nat.le_of_ble_eq_true rfl, Nat.le_of_ble_eq_true rfl⟩) (gP_S hG hS (fun q _ h => hF9 q h) ⟨rfl, (RO.beside (wr := [(na_1, .inl (dA 0, 3, .inl (upd (upd (upd (fun _ => 0) 0 t) 1 a) 2 b)))]) hP hD [] [1] rfl rfl (by decide))⟩) rfl rfl hl.1 rfl (lv_room (Nat.le_of_ble_eq_true rfl)) dX1_rotor_15 ⟨by first | decide | omega | (show _ ≤ (30 : Nat); omega), by first | decide | omega | (show _ ≤ (400 : Nat); omega)⟩) hP hD hS hA [] [0, 1] rfl rfl (by decide) (by decide) (fun E ce q9 u9 t9 H locs ht9 hp9 hb9 hz hP hS h1 h2 h3 => ?_) (fun u9 H locs hq hX hz hk hP hD hS => ?_)
  · have hD := hD.sub (ws' := [((xa 7), .inl (dA 4, 8, .inr (.inr (.inr (.inr (fun k => some (rm k))))))), (na_1, .inl (dA 0, 3, .inl (upd (upd (upd (fun _ => 0) 0 t) 1 a) 2 b)))]) [0, 1] (by decide) rfl
    have hP : va_P (dC, dI) vwCl [((xa 7), .inl (dA 4, 8, .inr (.inr (.inr (.inr (fun k => some (rm k))))))), (na_1, .inl (dA 0, 3, .inl (upd (upd (upd (fun _ => 0) 0 t) 1 a) 2 b)))] H := hP
    have hD : va_D A [((xa 7), .inl (dA 4, 8, .inr (.inr (.inr (.inr (fun k => some (rm k))))))), (na_1, .inl (dA 0, 3, .inl (upd (upd (upd (fun _ => 0) 0 t) 1 a) 2 b)))] := hD
    subst hb9
    subst hQe
    exact vx_outP hown hlocks (by rw [hxt]; exact (List.forall_mem_cons.mpr ⟨Or.inl (by decide), (fun _ h => nomatch h)⟩)) h1 h2 h3 (fun t10 e10 _ => ⟨(), trivial, (⟨Or.inl (⟨rfl, rot_1 (rgs3.symm.trans hp9)⟩), by rw [e10]; exact hP.sub (ws' := [((xa 7), .inl (dA 4, 8, .inr (.inr (.inr (.inr (fun k => some (rm k)))))))]) [0] rfl⟩ : (_ ∧ _)), hS.F e10⟩) hS.2.2 (by first | decide | omega) (by first | decide | omega)
  have hrg : (rgB t && rgB a && rgB b) = true := rgs3.symm.trans hq
  clear hq
  have hP : va_P (dC, dI) vwCl [((xa 7), .inl (dA 4, 8, .inr (.inr (.inr (.inr (fun k => some (rm k))))))), (na_1, .inl (dA 0, 3, .inl (upd (upd (upd (fun _ => 0) 0 t) 1 a) 2 b)))] H := hP
  have hD : va_D A [((xa 7), .inl (dA 4, 8, .inr (.inr (.inr (.inr (fun k => some (rm k))))))), (na_1, .inl (dA 0, 3, .inl (upd (upd (upd (fun _ => 0) 0 t) 1 a) 2 b)))] := hD
  have hP0 := hP.sub (ws' := [((xa 7), .inl (dA 4, 8, .inr (.inr (.inr (.inr (fun k => some (rm k)))))))]) [0] rfl
  have hD0 := hD.sub (ws' := [((xa 7), .inl (dA 4, 8, .inr (.inr (.inr (.inr (fun k => some (rm k)))))))]) [0] (by decide) rfl
  have h8jt := inB_nat (by decide) (show inB t (nI 0) (nI 7) = true from (Bool.and_eq_true_iff.mp (Bool.and_eq_true_iff.mp hrg).1).1)
  have h8ja := inB_nat (by decide) (show inB a (nI 0) (nI 7) = true from (Bool.and_eq_true_iff.mp (Bool.and_eq_true_iff.mp hrg).1).2)
  have h8jb := inB_nat (by decide) (show inB b (nI 0) (nI 7) = true from (Bool.and_eq_true_iff.mp hrg).2)
  obtain ⟨jt, h9jt, e8jt⟩ := h8jt
  obtain ⟨ja, h9ja, e8ja⟩ := h8ja
  obtain ⟨jb, h9jb, e8jb⟩ := h8jb
  have h7jt : jt < 8 := by omega
  subst e8jt
  have h7ja : ja < 8 := by omega
  subst e8ja
  have h7jb : jb < 8 := by omega
  subst e8jb
  have hP := hP0
  have hD := hD0
  refine lv_aload_n hx hb dX1_rotor_18 rfl (lv_at hl 0 rfl) ?_
  refine va_get (D := (dC, dI)) (ci := 3) (v := .ref (xa 3)) (C := RX1) (T := TX1) (N := 9) hx hb hts in_X1 hown hK (hR0.up hS) 0 rfl rfl 2 (by decide) (hts _ q286) (fun _ h9 => h9) rfl dX1_rotor_19 ?_
  refine va_getN (D := (dC, dI)) (ci := 4) (v := .ref (xa 7)) (C := RX4) (T := TX4) (N := 2) hx hb hts in_X4 hown hK (hR0.up hS) 1 rfl rfl 1 (by decide) (((va_Nw.warmF hG.1 (va_Nw.of rfl (Z.2.1 _ q243)))).use rfl) (fun _ h9 => h9) rfl dX1_rotor_22 ?_
  refine lv_iload_n hx hb dX1_rotor_25 rfl (lv_at hl 2 rfl) ?_
  refine a_aldq hx hb hK hP 0 4 rfl rfl (by omega) (by decide) dX1_rotor_26 ?_
  refine e_v (y := .ref (rm ja)) (rfl) ?_
  have hR2 := hRG ja (by omega)
  refine lv_astore (lv' := [(4, .ref (rm ja)), (0, .ref (xa 0)), (1, .int (nI jt)), (2, .int (nI ja)), (3, .int (nI jb))]) hx hb dX1_rotor_27 hl (by decide) rfl (fun ls hl => ?_)
  refine lv_aload_n hx hb dX1_rotor_29 rfl (lv_at hl 1 rfl) ?_
  refine va_get (D := (dC, dI)) (ci := 3) (v := .ref (xa 3)) (C := RX1) (T := TX1) (N := 9) hx hb hts in_X1 hown hK (hR0.up hS) 0 rfl rfl 2 (by decide) (hts _ q286) (fun _ h9 => h9) rfl dX1_rotor_30 ?_
  refine va_getN (D := (dC, dI)) (ci := 4) (v := .ref (xa 7)) (C := RX4) (T := TX4) (N := 2) hx hb hts in_X4 hown hK (hR0.up hS) 1 rfl rfl 1 (by decide) (((va_Nw.warmF hG.1 (va_Nw.of rfl (Z.2.1 _ q243)))).use rfl) (fun _ h9 => h9) rfl dX1_rotor_33 ?_
  refine lv_iload_n hx hb dX1_rotor_36 rfl (lv_at hl 4 rfl) ?_
  refine a_aldq hx hb hK hP 0 4 rfl rfl (by omega) (by decide) dX1_rotor_37 ?_
  refine e_v (y := .ref (rm jb)) (rfl) ?_
  have hR3 := hRG jb (by omega)
  refine lv_astore (lv' := [(5, .ref (rm jb)), (4, .ref (rm ja)), (0, .ref (xa 0)), (1, .int (nI jt)), (2, .int (nI ja)), (3, .int (nI jb))]) hx hb dX1_rotor_38 hl (by decide) rfl (fun ls hl => ?_)
  refine lv_aload hx hb dX1_rotor_40 (lv_at hl 1 rfl) ?_
  obtain ⟨gr, Yg⟩ : ∃ g, SG (dC, dI) dA g s0 := ⟨_, SS.gr Y⟩
  refine s_i (va_runV (As := []) (rest := []) ⟨hx, hb, hml, hown, hts⟩ (x6_isVector Z gr Yg (rm ja) (rr ja) (Ms ja)) (cwV 0 hts (lw_V q915 q916 q917 q102 q918) rfl rfl rfl (by decide +kernel) ⟨Nat.le_of_ble_eq_true rfl, Nat.le_of_ble_eq_true rfl⟩) (gP_V (va_recv hK (hR2.up hS) (ci := 0) (q0 := 0) rfl rfl) hG hS (fun q _ h => h.elim) ((hR2.up hS).sub (ws' := [((rm ja), .inr (0, [.ref (rr ja), .long (Ms ja 0)])), ((rr ja), .inl (dA 1, 32, .inr (.inl (fun j => Ms ja (j + 1)))))]) [0, 1] rfl)) rfl rfl hl.1 rfl (lv_room (Nat.le_of_ble_eq_true rfl)) dX1_rotor_42 ⟨by first | decide | omega | (show _ ≤ (30 : Nat); omega), by first | decide | omega | (show _ ≤ (400 : Nat); omega)⟩) ?_
  refine lv_if_eq (tgt := 60) hx hb dX1_rotor_45 (by decide) (fun c_45 => ?_) (fun c_45 => ?_)
  · have hbad : (vecB (Ms ja) && vecB (Ms jb)) = false := by rw [show vecB (Ms ja) = false from bI_0 c_45, Bool.false_and]
    refine lv_iconst (v := nI 0) hx hb dX1_rotor_60 (by decide) ?_
    have hF9 := va_free (wc := []) hD hS (fun q h => hA q h) [] rfl
    refine x_v (wc := []) (wr := [((xa 7), .inl (dA 4, 8, .inr (.inr (.inr (.inr (fun k => some (rm k)))))))]) (vx_runS (As := [.int (nI 0)]) (rest := []) ⟨hx, hb, hml, hown, hts⟩ (x1_possible Z (va_A [] H.size) H.size (fun q h => Or.inr h) (SS.st Y) (σ 52) (SS.st2 Y) false) (va_cwS 1 hts (lw_S q891 q776 q96 q777) rfl rfl rfl (by decide +kernel) ⟨Nat.le_of_ble_eq_true rfl, Nat.le_of_ble_eq_true rfl⟩) (gP_S hG hS (fun q _ h => hF9 q h) rfl) rfl rfl hl.1 rfl (lv_room (Nat.le_of_ble_eq_true rfl)) dX1_rotor_61 ⟨by first | decide | omega | (show _ ≤ (30 : Nat); omega), by first | decide | omega | (show _ ≤ (400 : Nat); omega)⟩) hP hD hS hA [] [0] rfl rfl (by decide) (by decide) (fun E ce q9 u9 t9 H locs ht9 hp9 hb9 hz hP hS h1 h2 h3 => ?_) (fun u9 H locs hq hX hz hk hP hD hS => ?_)
    · have hD := hD.sub (ws' := [((xa 7), .inl (dA 4, 8, .inr (.inr (.inr (.inr (fun k => some (rm k)))))))]) [0] (by decide) rfl
      have hP : va_P (dC, dI) vwCl [((xa 7), .inl (dA 4, 8, .inr (.inr (.inr (.inr (fun k => some (rm k)))))))] H := hP
      have hD : va_D A [((xa 7), .inl (dA 4, 8, .inr (.inr (.inr (.inr (fun k => some (rm k)))))))] := hD
      subst hb9
      subst hQe
      exact vx_outP hown hlocks (by rw [hxt]; exact (List.forall_mem_cons.mpr ⟨Or.inl (by decide), (fun _ h => nomatch h)⟩)) h1 h2 h3 (fun t10 e10 _ => ⟨(), trivial, (⟨Or.inr (Or.inl (⟨rfl, rot_2 h7jt h7ja h7jb hbad⟩)), by rw [e10]; exact hP.sub (ws' := [((xa 7), .inl (dA 4, 8, .inr (.inr (.inr (.inr (fun k => some (rm k)))))))]) [0] rfl⟩ : (_ ∧ _)), hS.F e10⟩) hS.2.2 (by first | decide | omega) (by first | decide | omega)
    exact absurd hq (by decide)
  · have hva : vecB (Ms ja) = true := bI_1 c_45
    refine lv_aload hx hb dX1_rotor_48 (lv_at hl 0 rfl) ?_
    obtain ⟨gr, Yg⟩ : ∃ g, SG (dC, dI) dA g s0 := ⟨_, SS.gr Y⟩
    refine s_i (va_runV (As := []) (rest := []) ⟨hx, hb, hml, hown, hts⟩ (x6_isVector Z gr Yg (rm jb) (rr jb) (Ms jb)) (cwV 0 hts (lw_V q915 q916 q917 q102 q918) rfl rfl rfl (by decide +kernel) ⟨Nat.le_of_ble_eq_true rfl, Nat.le_of_ble_eq_true rfl⟩) (gP_V (va_recv hK (hR3.up hS) (ci := 0) (q0 := 0) rfl rfl) hG hS (fun q _ h => h.elim) ((hR3.up hS).sub (ws' := [((rm jb), .inr (0, [.ref (rr jb), .long (Ms jb 0)])), ((rr jb), .inl (dA 1, 32, .inr (.inl (fun j => Ms jb (j + 1)))))]) [0, 1] rfl)) rfl rfl hl.1 rfl (lv_room (Nat.le_of_ble_eq_true rfl)) dX1_rotor_50 ⟨by first | decide | omega | (show _ ≤ (30 : Nat); omega), by first | decide | omega | (show _ ≤ (400 : Nat); omega)⟩) ?_
    refine lv_if_eq (tgt := 60) hx hb dX1_rotor_53 (by decide) (fun c_53 => ?_) (fun c_53 => ?_)
    · have hbad : (vecB (Ms ja) && vecB (Ms jb)) = false := by rw [show vecB (Ms jb) = false from bI_0 c_53, Bool.and_false]
      refine lv_iconst (v := nI 0) hx hb dX1_rotor_60 (by decide) ?_
      have hF9 := va_free (wc := []) hD hS (fun q h => hA q h) [] rfl
      refine x_v (wc := []) (wr := [((xa 7), .inl (dA 4, 8, .inr (.inr (.inr (.inr (fun k => some (rm k)))))))]) (vx_runS (As := [.int (nI 0)]) (rest := []) ⟨hx, hb, hml, hown, hts⟩ (x1_possible Z (va_A [] H.size) H.size (fun q h => Or.inr h) (SS.st Y) (σ 52) (SS.st2 Y) false) (va_cwS 1 hts (lw_S q891 q776 q96 q777) rfl rfl rfl (by decide +kernel) ⟨Nat.le_of_ble_eq_true rfl, Nat.le_of_ble_eq_true rfl⟩) (gP_S hG hS (fun q _ h => hF9 q h) rfl) rfl rfl hl.1 rfl (lv_room (Nat.le_of_ble_eq_true rfl)) dX1_rotor_61 ⟨by first | decide | omega | (show _ ≤ (30 : Nat); omega), by first | decide | omega | (show _ ≤ (400 : Nat); omega)⟩) hP hD hS hA [] [0] rfl rfl (by decide) (by decide) (fun E ce q9 u9 t9 H locs ht9 hp9 hb9 hz hP hS h1 h2 h3 => ?_) (fun u9 H locs hq hX hz hk hP hD hS => ?_)
      · have hD := hD.sub (ws' := [((xa 7), .inl (dA 4, 8, .inr (.inr (.inr (.inr (fun k => some (rm k)))))))]) [0] (by decide) rfl
        have hP : va_P (dC, dI) vwCl [((xa 7), .inl (dA 4, 8, .inr (.inr (.inr (.inr (fun k => some (rm k)))))))] H := hP
        have hD : va_D A [((xa 7), .inl (dA 4, 8, .inr (.inr (.inr (.inr (fun k => some (rm k)))))))] := hD
        subst hb9
        subst hQe
        exact vx_outP hown hlocks (by rw [hxt]; exact (List.forall_mem_cons.mpr ⟨Or.inl (by decide), (fun _ h => nomatch h)⟩)) h1 h2 h3 (fun t10 e10 _ => ⟨(), trivial, (⟨Or.inr (Or.inl (⟨rfl, rot_2 h7jt h7ja h7jb hbad⟩)), by rw [e10]; exact hP.sub (ws' := [((xa 7), .inl (dA 4, 8, .inr (.inr (.inr (.inr (fun k => some (rm k)))))))]) [0] rfl⟩ : (_ ∧ _)), hS.F e10⟩) hS.2.2 (by first | decide | omega) (by first | decide | omega)
      exact absurd hq (by decide)
    · have hvb : vecB (Ms jb) = true := bI_1 c_53
      refine lv_iconst (v := nI 1) hx hb dX1_rotor_56 (by decide) ?_
      refine lv_goto (tgt := 61) hx hb dX1_rotor_57 (by decide) ?_
      have hF9 := va_free (wc := []) hD hS (fun q h => hA q h) [] rfl
      refine x_v (wc := []) (wr := [((xa 7), .inl (dA 4, 8, .inr (.inr (.inr (.inr (fun k => some (rm k)))))))]) (vx_runS (As := [.int (nI 1)]) (rest := []) ⟨hx, hb, hml, hown, hts⟩ (x1_possible Z (va_A [] H.size) H.size (fun q h => Or.inr h) (SS.st Y) (σ 52) (SS.st2 Y) true) (va_cwS 1 hts (lw_S q891 q776 q96 q777) rfl rfl rfl (by decide +kernel) ⟨Nat.le_of_ble_eq_true rfl, Nat.le_of_ble_eq_true rfl⟩) (gP_S hG hS (fun q _ h => hF9 q h) rfl) rfl rfl hl.1 rfl (lv_room (Nat.le_of_ble_eq_true rfl)) dX1_rotor_61 ⟨by first | decide | omega | (show _ ≤ (30 : Nat); omega), by first | decide | omega | (show _ ≤ (400 : Nat); omega)⟩) hP hD hS hA [] [0] rfl rfl (by decide) (by decide) (fun E ce q9 u9 t9 H locs ht9 hp9 hb9 hz hP hS h1 h2 h3 => ?_) (fun u9 H locs hq hX hz hk hP hD hS => ?_)
      · have hD := hD.sub (ws' := [((xa 7), .inl (dA 4, 8, .inr (.inr (.inr (.inr (fun k => some (rm k)))))))]) [0] (by decide) rfl
        have hP : va_P (dC, dI) vwCl [((xa 7), .inl (dA 4, 8, .inr (.inr (.inr (.inr (fun k => some (rm k)))))))] H := hP
        have hD : va_D A [((xa 7), .inl (dA 4, 8, .inr (.inr (.inr (.inr (fun k => some (rm k)))))))] := hD
        exact absurd hp9 (by decide)
      have hg61 : true = true := hq
      clear hq
      have hP : va_P (dC, dI) vwCl [((xa 7), .inl (dA 4, 8, .inr (.inr (.inr (.inr (fun k => some (rm k)))))))] H := hP
      have hD : va_D A [((xa 7), .inl (dA 4, 8, .inr (.inr (.inr (.inr (fun k => some (rm k)))))))] := hD
      refine lv_aload_n hx hb dX1_rotor_64 rfl (lv_at hl 2 rfl) ?_
      refine va_get (D := (dC, dI)) (ci := 3) (v := .ref (xa 3)) (C := RX1) (T := TX1) (N := 9) hx hb hts in_X1 hown hK (hR0.up hS) 0 rfl rfl 2 (by decide) (hts _ q286) (fun _ h9 => h9) rfl dX1_rotor_65 ?_
      refine va_getN (D := (dC, dI)) (ci := 4) (v := .ref ga) (C := RX4) (T := TX4) (N := 2) hx hb hts in_X4 hown hK (hR0.up hS) 1 rfl rfl 0 (by decide) (((va_Nw.warmF hG.1 (va_Nw.of rfl (Z.2.1 _ q240)))).use rfl) (fun _ h9 => h9) rfl dX1_rotor_68 ?_
      refine lv_aload hx hb dX1_rotor_71 (lv_at hl 1 rfl) ?_
      refine lv_aload hx hb dX1_rotor_73 (lv_at hl 1 rfl) ?_
      have hF9 := va_free (wc := []) hD hS (fun q h => hA q h) [] rfl
      refine x_r (wc := []) (wr := [((xa 7), .inl (dA 4, 8, .inr (.inr (.inr (.inr (fun k => some (rm k)))))))]) (vx_runV (As := [.ref (rm ja), .ref (rm ja)]) (rest := []) ⟨hx, hb, hml, hown, hts⟩ (x5_product2 Z (va_A [] H.size) H.size (fun q h => Or.inr h) Y ga sg sr p0 q0 r0 (rm ja) (rr ja) (Ms ja) (rm ja) (rr ja) (Ms ja) (sR ja (by omega)) (sR ja (by omega))) (cwV 2 hts (lw_V q859 q652 q653 q101 q654) rfl rfl rfl (by decide +kernel) ⟨Nat.le_of_ble_eq_true rfl, Nat.le_of_ble_eq_true rfl⟩) (gP_V (va_recv hK (hR1.up hS) (ci := 1) (q0 := 0) rfl rfl) hG hS (fun q _ h => hF9 q h) ⟨rfl, (hR2.to hS (fun q _ h => hF9 q h)), (hR2.to hS (fun q _ h => hF9 q h)), (hAG.to hS (fun q _ h => hF9 q h))⟩) rfl rfl hl.1 rfl (lv_room (Nat.le_of_ble_eq_true rfl)) dX1_rotor_75 ⟨by first | decide | omega | (show _ ≤ (30 : Nat); omega), by first | decide | omega | (show _ ≤ (400 : Nat); omega)⟩) hP hD hS hA [] [0] rfl rfl (by decide) (by decide) (fun E ce q9 u9 t9 H locs ht9 hp9 hb9 hz hP hS h1 h2 h3 => ?_) (fun u9 ra9 H locs hq hX hz hk hP hD hS => ?_)
      · have hD := hD.sub (ws' := [((xa 7), .inl (dA 4, 8, .inr (.inr (.inr (.inr (fun k => some (rm k)))))))]) [0] (by decide) rfl
        have hP : va_P (dC, dI) vwCl [((xa 7), .inl (dA 4, 8, .inr (.inr (.inr (.inr (fun k => some (rm k)))))))] H := hP
        have hD : va_D A [((xa 7), .inl (dA 4, 8, .inr (.inr (.inr (.inr (fun k => some (rm k)))))))] := hD
        subst hb9
        refine vx_catch (name := "BladeAlgebra$Unfit") (E := "BladeAlgebra$Unfit") (ce := ce) hown [] ⟨64, 182, 183, 179⟩ [] hxt (fun _ h => nomatch h) (by decide) (by decide) (hts _ q468) (castZ Z hG q523) h1 h2 h3 ?_
        have hpU := hp9
        refine lv_astore (lv' := [(6, .ref q9), (5, .ref (rm jb)), (4, .ref (rm ja)), (0, .ref (xa 0)), (1, .int (nI jt)), (2, .int (nI ja)), (3, .int (nI jb))]) hx hb dX1_rotor_183 hl (by decide) rfl (fun ls hl => ?_)
        have hF9 := va_free (wc := []) hD hS (fun q h => hA q h) [] rfl
        refine c_r (wr := [((xa 7), .inl (dA 4, 8, .inr (.inr (.inr (.inr (fun k => some (rm k)))))))]) (va_runS (As := []) (rest := []) ⟨hx, hb, hml, hown, hts⟩ (x1_large Z (va_A [] H.size) H.size (fun q h => Or.inr h) Y) (va_cwS 0 hts (lw_S q562 q563 q96 q564) rfl rfl rfl (by decide +kernel) ⟨Nat.le_of_ble_eq_true rfl, Nat.le_of_ble_eq_true rfl⟩) (gP_S hG hS (fun q _ h => hF9 q h) rfl) rfl rfl hl.1 rfl (lv_room (Nat.le_of_ble_eq_true rfl)) dX1_rotor_185 ⟨by first | decide | omega | (show _ ≤ (30 : Nat); omega), by first | decide | omega | (show _ ≤ (400 : Nat); omega)⟩) hP hD hS hA [] [0] rfl rfl (by decide) (by decide) (fun u9 ra9 H locs hq hX hz hk hP hD hS => ?_)
        obtain ⟨ra_2, rfl⟩ : ∃ z, z = ra9 := ⟨_, rfl⟩
        have hP : va_P (dC, dI) vwCl [((xa 7), .inl (dA 4, 8, .inr (.inr (.inr (.inr (fun k => some (rm k))))))), (ra_2, .inr (17, []))] H := hP
        have hD : va_D A [((xa 7), .inl (dA 4, 8, .inr (.inr (.inr (.inr (fun k => some (rm k))))))), (ra_2, .inr (17, []))] := hD
        refine vx_athrow hx hb dX1_rotor_188 ?_
        obtain ⟨ce, h1, h2, h3⟩ := va_thr hK hP (ci := 17) (q0 := 1) rfl rfl
        subst hQe
        exact vx_outP hown hlocks (by rw [hxt]; exact (List.forall_mem_cons.mpr ⟨Or.inl (by decide), (fun _ h => nomatch h)⟩)) h1 h2 h3 (fun t10 e10 _ => ⟨(), trivial, (⟨Or.inr (Or.inr (Or.inl (⟨rfl, rot_x0 h7jt h7ja h7jb hva hvb  hpU⟩))), by rw [e10]; exact hP.sub (ws' := [((xa 7), .inl (dA 4, 8, .inr (.inr (.inr (.inr (fun k => some (rm k)))))))]) [0] rfl⟩ : (_ ∧ _)), hS.F e10⟩) hS.2.2 (by first | decide | omega) (by first | decide | omega)
      obtain ⟨ra_3, rfl⟩ : ∃ z, z = ra9 := ⟨_, rfl⟩
      obtain ⟨mr_3, M_3⟩ := u9
      have e_3 := hq
      have sm_3 : MSm M_3 := mulS_sm (sR ja (by omega)) (sR ja (by omega)) e_3
      clear hq
      have hP : va_P (dC, dI) vwCl [((xa 7), .inl (dA 4, 8, .inr (.inr (.inr (.inr (fun k => some (rm k))))))), (ra_3, .inr (0, [.ref mr_3, .long (M_3 0)])), (mr_3, .inl (dA 1, 32, .inr (.inl (fun j => M_3 (j + 1)))))] H := hP
      have hD : va_D A [((xa 7), .inl (dA 4, 8, .inr (.inr (.inr (.inr (fun k => some (rm k))))))), (ra_3, .inr (0, [.ref mr_3, .long (M_3 0)])), (mr_3, .inl (dA 1, 32, .inr (.inl (fun j => M_3 (j + 1)))))] := hD
      refine lv_astore (lv' := [(6, .ref ra_3), (5, .ref (rm jb)), (4, .ref (rm ja)), (0, .ref (xa 0)), (1, .int (nI jt)), (2, .int (nI ja)), (3, .int (nI jb))]) hx hb dX1_rotor_78 hl (by decide) rfl (fun ls hl => ?_)
      refine lv_aload_n hx hb dX1_rotor_80 rfl (lv_at hl 3 rfl) ?_
      refine va_get (D := (dC, dI)) (ci := 3) (v := .ref (xa 3)) (C := RX1) (T := TX1) (N := 9) hx hb hts in_X1 hown hK (hR0.up hS) 0 rfl rfl 2 (by decide) (hts _ q286) (fun _ h9 => h9) rfl dX1_rotor_81 ?_
      refine va_getN (D := (dC, dI)) (ci := 4) (v := .ref ga) (C := RX4) (T := TX4) (N := 2) hx hb hts in_X4 hown hK (hR0.up hS) 1 rfl rfl 0 (by decide) (((va_Nw.warmF hG.1 (va_Nw.of rfl (Z.2.1 _ q240)))).use rfl) (fun _ h9 => h9) rfl dX1_rotor_84 ?_
      refine lv_aload hx hb dX1_rotor_87 (lv_at hl 1 rfl) ?_
      refine lv_aload hx hb dX1_rotor_89 (lv_at hl 1 rfl) ?_
      have hF9 := va_free (wc := []) hD hS (fun q h => hA q h) [] rfl
      refine x_r (wc := []) (wr := [((xa 7), .inl (dA 4, 8, .inr (.inr (.inr (.inr (fun k => some (rm k))))))), (ra_3, .inr (0, [.ref mr_3, .long (M_3 0)])), (mr_3, .inl (dA 1, 32, .inr (.inl (fun j => M_3 (j + 1)))))]) (vx_runV (As := [.ref (rm jb), .ref (rm jb)]) (rest := []) ⟨hx, hb, hml, hown, hts⟩ (x5_product2 Z (va_A [] H.size) H.size (fun q h => Or.inr h) Y ga sg sr p0 q0 r0 (rm jb) (rr jb) (Ms jb) (rm jb) (rr jb) (Ms jb) (sR jb (by omega)) (sR jb (by omega))) (cwV 2 hts (lw_V q859 q652 q653 q101 q654) rfl rfl rfl (by decide +kernel) ⟨Nat.le_of_ble_eq_true rfl, Nat.le_of_ble_eq_true rfl⟩) (gP_V (va_recv hK (hR1.up hS) (ci := 1) (q0 := 0) rfl rfl) hG hS (fun q _ h => hF9 q h) ⟨rfl, (hR3.to hS (fun q _ h => hF9 q h)), (hR3.to hS (fun q _ h => hF9 q h)), (hAG.to hS (fun q _ h => hF9 q h))⟩) rfl rfl hl.1 rfl (lv_room (Nat.le_of_ble_eq_true rfl)) dX1_rotor_91 ⟨by first | decide | omega | (show _ ≤ (30 : Nat); omega), by first | decide | omega | (show _ ≤ (400 : Nat); omega)⟩) hP hD hS hA [] [0, 1, 2] rfl rfl (by decide) (by decide) (fun E ce q9 u9 t9 H locs ht9 hp9 hb9 hz hP hS h1 h2 h3 => ?_) (fun u9 ra9 H locs hq hX hz hk hP hD hS => ?_)
      · have hD := hD.sub (ws' := [((xa 7), .inl (dA 4, 8, .inr (.inr (.inr (.inr (fun k => some (rm k))))))), (ra_3, .inr (0, [.ref mr_3, .long (M_3 0)])), (mr_3, .inl (dA 1, 32, .inr (.inl (fun j => M_3 (j + 1)))))]) [0, 1, 2] (by decide) rfl
        have hP : va_P (dC, dI) vwCl [((xa 7), .inl (dA 4, 8, .inr (.inr (.inr (.inr (fun k => some (rm k))))))), (ra_3, .inr (0, [.ref mr_3, .long (M_3 0)])), (mr_3, .inl (dA 1, 32, .inr (.inl (fun j => M_3 (j + 1)))))] H := hP
        have hD : va_D A [((xa 7), .inl (dA 4, 8, .inr (.inr (.inr (.inr (fun k => some (rm k))))))), (ra_3, .inr (0, [.ref mr_3, .long (M_3 0)])), (mr_3, .inl (dA 1, 32, .inr (.inl (fun j => M_3 (j + 1)))))] := hD
        subst hb9
        refine vx_catch (name := "BladeAlgebra$Unfit") (E := "BladeAlgebra$Unfit") (ce := ce) hown [] ⟨64, 182, 183, 179⟩ [] hxt (fun _ h => nomatch h) (by decide) (by decide) (hts _ q468) (castZ Z hG q523) h1 h2 h3 ?_
        have hpU := hp9
        refine lv_astore (lv' := [(6, .ref q9), (5, .ref (rm jb)), (4, .ref (rm ja)), (0, .ref (xa 0)), (1, .int (nI jt)), (2, .int (nI ja)), (3, .int (nI jb))]) hx hb dX1_rotor_183 hl (by decide) rfl (fun ls hl => ?_)
        have hF9 := va_free (wc := []) hD hS (fun q h => hA q h) [] rfl
        refine c_r (wr := [((xa 7), .inl (dA 4, 8, .inr (.inr (.inr (.inr (fun k => some (rm k))))))), (ra_3, .inr (0, [.ref mr_3, .long (M_3 0)])), (mr_3, .inl (dA 1, 32, .inr (.inl (fun j => M_3 (j + 1)))))]) (va_runS (As := []) (rest := []) ⟨hx, hb, hml, hown, hts⟩ (x1_large Z (va_A [] H.size) H.size (fun q h => Or.inr h) Y) (va_cwS 0 hts (lw_S q562 q563 q96 q564) rfl rfl rfl (by decide +kernel) ⟨Nat.le_of_ble_eq_true rfl, Nat.le_of_ble_eq_true rfl⟩) (gP_S hG hS (fun q _ h => hF9 q h) rfl) rfl rfl hl.1 rfl (lv_room (Nat.le_of_ble_eq_true rfl)) dX1_rotor_185 ⟨by first | decide | omega | (show _ ≤ (30 : Nat); omega), by first | decide | omega | (show _ ≤ (400 : Nat); omega)⟩) hP hD hS hA [] [0, 1, 2] rfl rfl (by decide) (by decide) (fun u9 ra9 H locs hq hX hz hk hP hD hS => ?_)
        obtain ⟨ra_4, rfl⟩ : ∃ z, z = ra9 := ⟨_, rfl⟩
        have hP : va_P (dC, dI) vwCl [((xa 7), .inl (dA 4, 8, .inr (.inr (.inr (.inr (fun k => some (rm k))))))), (ra_3, .inr (0, [.ref mr_3, .long (M_3 0)])), (mr_3, .inl (dA 1, 32, .inr (.inl (fun j => M_3 (j + 1))))), (ra_4, .inr (17, []))] H := hP
        have hD : va_D A [((xa 7), .inl (dA 4, 8, .inr (.inr (.inr (.inr (fun k => some (rm k))))))), (ra_3, .inr (0, [.ref mr_3, .long (M_3 0)])), (mr_3, .inl (dA 1, 32, .inr (.inl (fun j => M_3 (j + 1))))), (ra_4, .inr (17, []))] := hD
        refine vx_athrow hx hb dX1_rotor_188 ?_
        obtain ⟨ce, h1, h2, h3⟩ := va_thr hK hP (ci := 17) (q0 := 3) rfl rfl
        subst hQe
        exact vx_outP hown hlocks (by rw [hxt]; exact (List.forall_mem_cons.mpr ⟨Or.inl (by decide), (fun _ h => nomatch h)⟩)) h1 h2 h3 (fun t10 e10 _ => ⟨(), trivial, (⟨Or.inr (Or.inr (Or.inl (⟨rfl, rot_x1 h7jt h7ja h7jb hva hvb e_3 hpU⟩))), by rw [e10]; exact hP.sub (ws' := [((xa 7), .inl (dA 4, 8, .inr (.inr (.inr (.inr (fun k => some (rm k)))))))]) [0] rfl⟩ : (_ ∧ _)), hS.F e10⟩) hS.2.2 (by first | decide | omega) (by first | decide | omega)
      obtain ⟨ra_5, rfl⟩ : ∃ z, z = ra9 := ⟨_, rfl⟩
      obtain ⟨mr_5, M_5⟩ := u9
      have e_5 := hq
      have sm_5 : MSm M_5 := mulS_sm (sR jb (by omega)) (sR jb (by omega)) e_5
      clear hq
      have hP : va_P (dC, dI) vwCl [((xa 7), .inl (dA 4, 8, .inr (.inr (.inr (.inr (fun k => some (rm k))))))), (ra_3, .inr (0, [.ref mr_3, .long (M_3 0)])), (mr_3, .inl (dA 1, 32, .inr (.inl (fun j => M_3 (j + 1))))), (ra_5, .inr (0, [.ref mr_5, .long (M_5 0)])), (mr_5, .inl (dA 1, 32, .inr (.inl (fun j => M_5 (j + 1)))))] H := hP
      have hD : va_D A [((xa 7), .inl (dA 4, 8, .inr (.inr (.inr (.inr (fun k => some (rm k))))))), (ra_3, .inr (0, [.ref mr_3, .long (M_3 0)])), (mr_3, .inl (dA 1, 32, .inr (.inl (fun j => M_3 (j + 1))))), (ra_5, .inr (0, [.ref mr_5, .long (M_5 0)])), (mr_5, .inl (dA 1, 32, .inr (.inl (fun j => M_5 (j + 1)))))] := hD
      refine lv_astore (lv' := [(7, .ref ra_5), (6, .ref ra_3), (5, .ref (rm jb)), (4, .ref (rm ja)), (0, .ref (xa 0)), (1, .int (nI jt)), (2, .int (nI ja)), (3, .int (nI jb))]) hx hb dX1_rotor_94 hl (by decide) rfl (fun ls hl => ?_)
      refine lv_aload hx hb dX1_rotor_96 (lv_at hl 1 rfl) ?_
      obtain ⟨gr, Yg⟩ : ∃ g, SG (dC, dI) dA g s0 := ⟨_, SS.gr Y⟩
      refine s_i (va_runV (As := []) (rest := []) ⟨hx, hb, hml, hown, hts⟩ (x6_isOtherScalar Z gr Yg ra_3 mr_3 M_3) (cwV 0 hts (lw_V q1029 q768 q769 q102 q770) rfl rfl rfl (by decide +kernel) ⟨Nat.le_of_ble_eq_true rfl, Nat.le_of_ble_eq_true rfl⟩) (gP_V (va_recv hK hP (ci := 0) (q0 := 1) rfl rfl) hG hS (fun q _ h => h.elim) (hP.sub (ws' := [(ra_3, .inr (0, [.ref mr_3, .long (M_3 0)])), (mr_3, .inl (dA 1, 32, .inr (.inl (fun j => M_3 (j + 1)))))]) [1, 2] rfl)) rfl rfl hl.1 rfl (lv_room (Nat.le_of_ble_eq_true rfl)) dX1_rotor_98 ⟨by first | decide | omega | (show _ ≤ (30 : Nat); omega), by first | decide | omega | (show _ ≤ (400 : Nat); omega)⟩) ?_
      refine e_i (y := bI (isNumB M_3 32)) (congrArg bI (num_gr _)) ?_
      refine lv_if_eq (tgt := 118) hx hb dX1_rotor_101 (by decide) (fun c_101 => ?_) (fun c_101 => ?_)
      · have hq4 : trmS M_3 = 0 ∨ likeB M_3 M_5 33 = false := rot_z hn hva e_3 (bI_0 c_101)
        refine lv_iconst (v := nI 0) hx hb dX1_rotor_118 (by decide) ?_
        have hF9 := va_free (wc := []) hD hS (fun q h => hA q h) [] rfl
        refine x_v (wc := []) (wr := [((xa 7), .inl (dA 4, 8, .inr (.inr (.inr (.inr (fun k => some (rm k))))))), (ra_3, .inr (0, [.ref mr_3, .long (M_3 0)])), (mr_3, .inl (dA 1, 32, .inr (.inl (fun j => M_3 (j + 1))))), (ra_5, .inr (0, [.ref mr_5, .long (M_5 0)])), (mr_5, .inl (dA 1, 32, .inr (.inl (fun j => M_5 (j + 1)))))]) (vx_runS (As := [.int (nI 0)]) (rest := []) ⟨hx, hb, hml, hown, hts⟩ (x1_supported Z (va_A [] H.size) H.size (fun q h => Or.inr h) (SS.st Y) (σ 53) (SS.st3 Y) false) (va_cwS 1 hts (lw_S q1030 q1031 q96 q1032) rfl rfl rfl (by decide +kernel) ⟨Nat.le_of_ble_eq_true rfl, Nat.le_of_ble_eq_true rfl⟩) (gP_S hG hS (fun q _ h => hF9 q h) rfl) rfl rfl hl.1 rfl (lv_room (Nat.le_of_ble_eq_true rfl)) dX1_rotor_119 ⟨by first | decide | omega | (show _ ≤ (30 : Nat); omega), by first | decide | omega | (show _ ≤ (400 : Nat); omega)⟩) hP hD hS hA [] [0, 1, 2, 3, 4] rfl rfl (by decide) (by decide) (fun E ce q9 u9 t9 H locs ht9 hp9 hb9 hz hP hS h1 h2 h3 => ?_) (fun u9 H locs hq hX hz hk hP hD hS => ?_)
        · have hD := hD.sub (ws' := [((xa 7), .inl (dA 4, 8, .inr (.inr (.inr (.inr (fun k => some (rm k))))))), (ra_3, .inr (0, [.ref mr_3, .long (M_3 0)])), (mr_3, .inl (dA 1, 32, .inr (.inl (fun j => M_3 (j + 1))))), (ra_5, .inr (0, [.ref mr_5, .long (M_5 0)])), (mr_5, .inl (dA 1, 32, .inr (.inl (fun j => M_5 (j + 1)))))]) [0, 1, 2, 3, 4] (by decide) rfl
          have hP : va_P (dC, dI) vwCl [((xa 7), .inl (dA 4, 8, .inr (.inr (.inr (.inr (fun k => some (rm k))))))), (ra_3, .inr (0, [.ref mr_3, .long (M_3 0)])), (mr_3, .inl (dA 1, 32, .inr (.inl (fun j => M_3 (j + 1))))), (ra_5, .inr (0, [.ref mr_5, .long (M_5 0)])), (mr_5, .inl (dA 1, 32, .inr (.inl (fun j => M_5 (j + 1)))))] H := hP
          have hD : va_D A [((xa 7), .inl (dA 4, 8, .inr (.inr (.inr (.inr (fun k => some (rm k))))))), (ra_3, .inr (0, [.ref mr_3, .long (M_3 0)])), (mr_3, .inl (dA 1, 32, .inr (.inl (fun j => M_3 (j + 1))))), (ra_5, .inr (0, [.ref mr_5, .long (M_5 0)])), (mr_5, .inl (dA 1, 32, .inr (.inl (fun j => M_5 (j + 1)))))] := hD
          subst hb9
          subst hQe
          exact vx_outP hown hlocks (by rw [hxt]; exact (List.forall_mem_cons.mpr ⟨Or.inr ⟨by decide, "BladeAlgebra$Unfit", hts _ q468, ncZ Z hG nc_UnsupportedOperationException_Unfit⟩, (fun _ h => nomatch h)⟩)) h1 h2 h3 (fun t10 e10 _ => ⟨(), trivial, (⟨Or.inr (Or.inr (Or.inr (⟨rfl, rot_4 h7jt h7ja h7jb hva hvb e_3 e_5 hq4⟩))), by rw [e10]; exact hP.sub (ws' := [((xa 7), .inl (dA 4, 8, .inr (.inr (.inr (.inr (fun k => some (rm k)))))))]) [0] rfl⟩ : (_ ∧ _)), hS.F e10⟩) hS.2.2 (by first | decide | omega) (by first | decide | omega)
        exact absurd hq (by decide)
      · have hnA := bI_1 c_101
        refine lv_aload hx hb dX1_rotor_104 (lv_at hl 1 rfl) ?_
        refine lv_aload hx hb dX1_rotor_106 (lv_at hl 0 rfl) ?_
        refine s_i (va_runV (As := [.ref ra_5]) (rest := []) ⟨hx, hb, hml, hown, hts⟩ (x6_isLike Z ra_3 mr_3 ra_5 mr_5 M_3 M_5) (cwV 1 hts (lw_V q1061 q1062 q1063 q102 q1064) rfl rfl rfl (by decide +kernel) ⟨Nat.le_of_ble_eq_true rfl, Nat.le_of_ble_eq_true rfl⟩) (gP_V (va_recv hK hP (ci := 0) (q0 := 1) rfl rfl) hG hS (fun q _ h => h.elim) (hP.sub (ws' := [(ra_3, .inr (0, [.ref mr_3, .long (M_3 0)])), (mr_3, .inl (dA 1, 32, .inr (.inl (fun j => M_3 (j + 1))))), (ra_5, .inr (0, [.ref mr_5, .long (M_5 0)])), (mr_5, .inl (dA 1, 32, .inr (.inl (fun j => M_5 (j + 1)))))]) [1, 2, 3, 4] rfl)) rfl rfl hl.1 rfl (lv_room (Nat.le_of_ble_eq_true rfl)) dX1_rotor_108 ⟨by first | decide | omega | (show _ ≤ (30 : Nat); omega), by first | decide | omega | (show _ ≤ (400 : Nat); omega)⟩) ?_
        refine lv_if_eq (tgt := 118) hx hb dX1_rotor_111 (by decide) (fun c_111 => ?_) (fun c_111 => ?_)
        · have hq4 : trmS M_3 = 0 ∨ likeB M_3 M_5 33 = false := Or.inr (bI_0 c_111)
          refine lv_iconst (v := nI 0) hx hb dX1_rotor_118 (by decide) ?_
          have hF9 := va_free (wc := []) hD hS (fun q h => hA q h) [] rfl
          refine x_v (wc := []) (wr := [((xa 7), .inl (dA 4, 8, .inr (.inr (.inr (.inr (fun k => some (rm k))))))), (ra_3, .inr (0, [.ref mr_3, .long (M_3 0)])), (mr_3, .inl (dA 1, 32, .inr (.inl (fun j => M_3 (j + 1))))), (ra_5, .inr (0, [.ref mr_5, .long (M_5 0)])), (mr_5, .inl (dA 1, 32, .inr (.inl (fun j => M_5 (j + 1)))))]) (vx_runS (As := [.int (nI 0)]) (rest := []) ⟨hx, hb, hml, hown, hts⟩ (x1_supported Z (va_A [] H.size) H.size (fun q h => Or.inr h) (SS.st Y) (σ 53) (SS.st3 Y) false) (va_cwS 1 hts (lw_S q1030 q1031 q96 q1032) rfl rfl rfl (by decide +kernel) ⟨Nat.le_of_ble_eq_true rfl, Nat.le_of_ble_eq_true rfl⟩) (gP_S hG hS (fun q _ h => hF9 q h) rfl) rfl rfl hl.1 rfl (lv_room (Nat.le_of_ble_eq_true rfl)) dX1_rotor_119 ⟨by first | decide | omega | (show _ ≤ (30 : Nat); omega), by first | decide | omega | (show _ ≤ (400 : Nat); omega)⟩) hP hD hS hA [] [0, 1, 2, 3, 4] rfl rfl (by decide) (by decide) (fun E ce q9 u9 t9 H locs ht9 hp9 hb9 hz hP hS h1 h2 h3 => ?_) (fun u9 H locs hq hX hz hk hP hD hS => ?_)
          · have hD := hD.sub (ws' := [((xa 7), .inl (dA 4, 8, .inr (.inr (.inr (.inr (fun k => some (rm k))))))), (ra_3, .inr (0, [.ref mr_3, .long (M_3 0)])), (mr_3, .inl (dA 1, 32, .inr (.inl (fun j => M_3 (j + 1))))), (ra_5, .inr (0, [.ref mr_5, .long (M_5 0)])), (mr_5, .inl (dA 1, 32, .inr (.inl (fun j => M_5 (j + 1)))))]) [0, 1, 2, 3, 4] (by decide) rfl
            have hP : va_P (dC, dI) vwCl [((xa 7), .inl (dA 4, 8, .inr (.inr (.inr (.inr (fun k => some (rm k))))))), (ra_3, .inr (0, [.ref mr_3, .long (M_3 0)])), (mr_3, .inl (dA 1, 32, .inr (.inl (fun j => M_3 (j + 1))))), (ra_5, .inr (0, [.ref mr_5, .long (M_5 0)])), (mr_5, .inl (dA 1, 32, .inr (.inl (fun j => M_5 (j + 1)))))] H := hP
            have hD : va_D A [((xa 7), .inl (dA 4, 8, .inr (.inr (.inr (.inr (fun k => some (rm k))))))), (ra_3, .inr (0, [.ref mr_3, .long (M_3 0)])), (mr_3, .inl (dA 1, 32, .inr (.inl (fun j => M_3 (j + 1))))), (ra_5, .inr (0, [.ref mr_5, .long (M_5 0)])), (mr_5, .inl (dA 1, 32, .inr (.inl (fun j => M_5 (j + 1)))))] := hD
            subst hb9
            subst hQe
            exact vx_outP hown hlocks (by rw [hxt]; exact (List.forall_mem_cons.mpr ⟨Or.inr ⟨by decide, "BladeAlgebra$Unfit", hts _ q468, ncZ Z hG nc_UnsupportedOperationException_Unfit⟩, (fun _ h => nomatch h)⟩)) h1 h2 h3 (fun t10 e10 _ => ⟨(), trivial, (⟨Or.inr (Or.inr (Or.inr (⟨rfl, rot_4 h7jt h7ja h7jb hva hvb e_3 e_5 hq4⟩))), by rw [e10]; exact hP.sub (ws' := [((xa 7), .inl (dA 4, 8, .inr (.inr (.inr (.inr (fun k => some (rm k)))))))]) [0] rfl⟩ : (_ ∧ _)), hS.F e10⟩) hS.2.2 (by first | decide | omega) (by first | decide | omega)
          exact absurd hq (by decide)
        · have hq5 := rot_q hnA (bI_1 c_111)
          refine lv_iconst (v := nI 1) hx hb dX1_rotor_114 (by decide) ?_
          refine lv_goto (tgt := 119) hx hb dX1_rotor_115 (by decide) ?_
          have hF9 := va_free (wc := []) hD hS (fun q h => hA q h) [] rfl
          refine x_v (wc := []) (wr := [((xa 7), .inl (dA 4, 8, .inr (.inr (.inr (.inr (fun k => some (rm k))))))), (ra_3, .inr (0, [.ref mr_3, .long (M_3 0)])), (mr_3, .inl (dA 1, 32, .inr (.inl (fun j => M_3 (j + 1))))), (ra_5, .inr (0, [.ref mr_5, .long (M_5 0)])), (mr_5, .inl (dA 1, 32, .inr (.inl (fun j => M_5 (j + 1)))))]) (vx_runS (As := [.int (nI 1)]) (rest := []) ⟨hx, hb, hml, hown, hts⟩ (x1_supported Z (va_A [] H.size) H.size (fun q h => Or.inr h) (SS.st Y) (σ 53) (SS.st3 Y) true) (va_cwS 1 hts (lw_S q1030 q1031 q96 q1032) rfl rfl rfl (by decide +kernel) ⟨Nat.le_of_ble_eq_true rfl, Nat.le_of_ble_eq_true rfl⟩) (gP_S hG hS (fun q _ h => hF9 q h) rfl) rfl rfl hl.1 rfl (lv_room (Nat.le_of_ble_eq_true rfl)) dX1_rotor_119 ⟨by first | decide | omega | (show _ ≤ (30 : Nat); omega), by first | decide | omega | (show _ ≤ (400 : Nat); omega)⟩) hP hD hS hA [] [0, 1, 2, 3, 4] rfl rfl (by decide) (by decide) (fun E ce q9 u9 t9 H locs ht9 hp9 hb9 hz hP hS h1 h2 h3 => ?_) (fun u9 H locs hq hX hz hk hP hD hS => ?_)
          · have hD := hD.sub (ws' := [((xa 7), .inl (dA 4, 8, .inr (.inr (.inr (.inr (fun k => some (rm k))))))), (ra_3, .inr (0, [.ref mr_3, .long (M_3 0)])), (mr_3, .inl (dA 1, 32, .inr (.inl (fun j => M_3 (j + 1))))), (ra_5, .inr (0, [.ref mr_5, .long (M_5 0)])), (mr_5, .inl (dA 1, 32, .inr (.inl (fun j => M_5 (j + 1)))))]) [0, 1, 2, 3, 4] (by decide) rfl
            have hP : va_P (dC, dI) vwCl [((xa 7), .inl (dA 4, 8, .inr (.inr (.inr (.inr (fun k => some (rm k))))))), (ra_3, .inr (0, [.ref mr_3, .long (M_3 0)])), (mr_3, .inl (dA 1, 32, .inr (.inl (fun j => M_3 (j + 1))))), (ra_5, .inr (0, [.ref mr_5, .long (M_5 0)])), (mr_5, .inl (dA 1, 32, .inr (.inl (fun j => M_5 (j + 1)))))] H := hP
            have hD : va_D A [((xa 7), .inl (dA 4, 8, .inr (.inr (.inr (.inr (fun k => some (rm k))))))), (ra_3, .inr (0, [.ref mr_3, .long (M_3 0)])), (mr_3, .inl (dA 1, 32, .inr (.inl (fun j => M_3 (j + 1))))), (ra_5, .inr (0, [.ref mr_5, .long (M_5 0)])), (mr_5, .inl (dA 1, 32, .inr (.inl (fun j => M_5 (j + 1)))))] := hD
            exact absurd hp9 (by decide)
          have hg119 : true = true := hq
          clear hq
          have hP : va_P (dC, dI) vwCl [((xa 7), .inl (dA 4, 8, .inr (.inr (.inr (.inr (fun k => some (rm k))))))), (ra_3, .inr (0, [.ref mr_3, .long (M_3 0)])), (mr_3, .inl (dA 1, 32, .inr (.inl (fun j => M_3 (j + 1))))), (ra_5, .inr (0, [.ref mr_5, .long (M_5 0)])), (mr_5, .inl (dA 1, 32, .inr (.inl (fun j => M_5 (j + 1)))))] H := hP
          have hD : va_D A [((xa 7), .inl (dA 4, 8, .inr (.inr (.inr (.inr (fun k => some (rm k))))))), (ra_3, .inr (0, [.ref mr_3, .long (M_3 0)])), (mr_3, .inl (dA 1, 32, .inr (.inl (fun j => M_3 (j + 1))))), (ra_5, .inr (0, [.ref mr_5, .long (M_5 0)])), (mr_5, .inl (dA 1, 32, .inr (.inl (fun j => M_5 (j + 1)))))] := hD
          refine lv_aload hx hb dX1_rotor_122 (lv_at hl 1 rfl) ?_
          refine lv_aload_n hx hb dX1_rotor_124 rfl (lv_at hl 4 rfl) ?_
          refine va_get (D := (dC, dI)) (ci := 3) (v := .ref (xa 3)) (C := RX1) (T := TX1) (N := 9) hx hb hts in_X1 hown hK (hR0.up hS) 0 rfl rfl 2 (by decide) (hts _ q286) (fun _ h9 => h9) rfl dX1_rotor_125 ?_
          refine va_getN (D := (dC, dI)) (ci := 4) (v := .ref ga) (C := RX4) (T := TX4) (N := 2) hx hb hts in_X4 hown hK (hR0.up hS) 1 rfl rfl 0 (by decide) (((va_Nw.warmF hG.1 (va_Nw.of rfl (Z.2.1 _ q240)))).use rfl) (fun _ h9 => h9) rfl dX1_rotor_128 ?_
          refine lv_aload hx hb dX1_rotor_131 (lv_at hl 2 rfl) ?_
          refine lv_aload hx hb dX1_rotor_133 (lv_at hl 3 rfl) ?_
          have hF9 := va_free (wc := []) hD hS (fun q h => hA q h) [] rfl
          refine x_r (wc := []) (wr := [((xa 7), .inl (dA 4, 8, .inr (.inr (.inr (.inr (fun k => some (rm k))))))), (ra_3, .inr (0, [.ref mr_3, .long (M_3 0)])), (mr_3, .inl (dA 1, 32, .inr (.inl (fun j => M_3 (j + 1))))), (ra_5, .inr (0, [.ref mr_5, .long (M_5 0)])), (mr_5, .inl (dA 1, 32, .inr (.inl (fun j => M_5 (j + 1)))))]) (vx_runV (As := [.ref (rm jb), .ref (rm ja)]) (rest := [.ref ra_3]) ⟨hx, hb, hml, hown, hts⟩ (x5_product2 Z (va_A [] H.size) H.size (fun q h => Or.inr h) Y ga sg sr p0 q0 r0 (rm jb) (rr jb) (Ms jb) (rm ja) (rr ja) (Ms ja) (sR jb (by omega)) (sR ja (by omega))) (cwV 2 hts (lw_V q859 q652 q653 q101 q654) rfl rfl rfl (by decide +kernel) ⟨Nat.le_of_ble_eq_true rfl, Nat.le_of_ble_eq_true rfl⟩) (gP_V (va_recv hK (hR1.up hS) (ci := 1) (q0 := 0) rfl rfl) hG hS (fun q _ h => hF9 q h) ⟨rfl, (hR3.to hS (fun q _ h => hF9 q h)), (hR2.to hS (fun q _ h => hF9 q h)), (hAG.to hS (fun q _ h => hF9 q h))⟩) rfl rfl hl.1 rfl (lv_room (Nat.le_of_ble_eq_true rfl)) dX1_rotor_135 ⟨by first | decide | omega | (show _ ≤ (30 : Nat); omega), by first | decide | omega | (show _ ≤ (400 : Nat); omega)⟩) hP hD hS hA [] [0, 1, 2, 3, 4] rfl rfl (by decide) (by decide) (fun E ce q9 u9 t9 H locs ht9 hp9 hb9 hz hP hS h1 h2 h3 => ?_) (fun u9 ra9 H locs hq hX hz hk hP hD hS => ?_)
          · have hD := hD.sub (ws' := [((xa 7), .inl (dA 4, 8, .inr (.inr (.inr (.inr (fun k => some (rm k))))))), (ra_3, .inr (0, [.ref mr_3, .long (M_3 0)])), (mr_3, .inl (dA 1, 32, .inr (.inl (fun j => M_3 (j + 1))))), (ra_5, .inr (0, [.ref mr_5, .long (M_5 0)])), (mr_5, .inl (dA 1, 32, .inr (.inl (fun j => M_5 (j + 1)))))]) [0, 1, 2, 3, 4] (by decide) rfl
            have hP : va_P (dC, dI) vwCl [((xa 7), .inl (dA 4, 8, .inr (.inr (.inr (.inr (fun k => some (rm k))))))), (ra_3, .inr (0, [.ref mr_3, .long (M_3 0)])), (mr_3, .inl (dA 1, 32, .inr (.inl (fun j => M_3 (j + 1))))), (ra_5, .inr (0, [.ref mr_5, .long (M_5 0)])), (mr_5, .inl (dA 1, 32, .inr (.inl (fun j => M_5 (j + 1)))))] H := hP
            have hD : va_D A [((xa 7), .inl (dA 4, 8, .inr (.inr (.inr (.inr (fun k => some (rm k))))))), (ra_3, .inr (0, [.ref mr_3, .long (M_3 0)])), (mr_3, .inl (dA 1, 32, .inr (.inl (fun j => M_3 (j + 1))))), (ra_5, .inr (0, [.ref mr_5, .long (M_5 0)])), (mr_5, .inl (dA 1, 32, .inr (.inl (fun j => M_5 (j + 1)))))] := hD
            subst hb9
            refine vx_catch (name := "BladeAlgebra$Unfit") (E := "BladeAlgebra$Unfit") (ce := ce) hown [] ⟨64, 182, 183, 179⟩ [] hxt (fun _ h => nomatch h) (by decide) (by decide) (hts _ q468) (castZ Z hG q523) h1 h2 h3 ?_
            have hpU := hp9
            refine lv_astore (lv' := [(6, .ref q9), (7, .ref ra_5), (5, .ref (rm jb)), (4, .ref (rm ja)), (0, .ref (xa 0)), (1, .int (nI jt)), (2, .int (nI ja)), (3, .int (nI jb))]) hx hb dX1_rotor_183 hl (by decide) rfl (fun ls hl => ?_)
            have hF9 := va_free (wc := []) hD hS (fun q h => hA q h) [] rfl
            refine c_r (wr := [((xa 7), .inl (dA 4, 8, .inr (.inr (.inr (.inr (fun k => some (rm k))))))), (ra_3, .inr (0, [.ref mr_3, .long (M_3 0)])), (mr_3, .inl (dA 1, 32, .inr (.inl (fun j => M_3 (j + 1))))), (ra_5, .inr (0, [.ref mr_5, .long (M_5 0)])), (mr_5, .inl (dA 1, 32, .inr (.inl (fun j => M_5 (j + 1)))))]) (va_runS (As := []) (rest := []) ⟨hx, hb, hml, hown, hts⟩ (x1_large Z (va_A [] H.size) H.size (fun q h => Or.inr h) Y) (va_cwS 0 hts (lw_S q562 q563 q96 q564) rfl rfl rfl (by decide +kernel) ⟨Nat.le_of_ble_eq_true rfl, Nat.le_of_ble_eq_true rfl⟩) (gP_S hG hS (fun q _ h => hF9 q h) rfl) rfl rfl hl.1 rfl (lv_room (Nat.le_of_ble_eq_true rfl)) dX1_rotor_185 ⟨by first | decide | omega | (show _ ≤ (30 : Nat); omega), by first | decide | omega | (show _ ≤ (400 : Nat); omega)⟩) hP hD hS hA [] [0, 1, 2, 3, 4] rfl rfl (by decide) (by decide) (fun u9 ra9 H locs hq hX hz hk hP hD hS => ?_)
            obtain ⟨ra_6, rfl⟩ : ∃ z, z = ra9 := ⟨_, rfl⟩
            have hP : va_P (dC, dI) vwCl [((xa 7), .inl (dA 4, 8, .inr (.inr (.inr (.inr (fun k => some (rm k))))))), (ra_3, .inr (0, [.ref mr_3, .long (M_3 0)])), (mr_3, .inl (dA 1, 32, .inr (.inl (fun j => M_3 (j + 1))))), (ra_5, .inr (0, [.ref mr_5, .long (M_5 0)])), (mr_5, .inl (dA 1, 32, .inr (.inl (fun j => M_5 (j + 1))))), (ra_6, .inr (17, []))] H := hP
            have hD : va_D A [((xa 7), .inl (dA 4, 8, .inr (.inr (.inr (.inr (fun k => some (rm k))))))), (ra_3, .inr (0, [.ref mr_3, .long (M_3 0)])), (mr_3, .inl (dA 1, 32, .inr (.inl (fun j => M_3 (j + 1))))), (ra_5, .inr (0, [.ref mr_5, .long (M_5 0)])), (mr_5, .inl (dA 1, 32, .inr (.inl (fun j => M_5 (j + 1))))), (ra_6, .inr (17, []))] := hD
            refine vx_athrow hx hb dX1_rotor_188 ?_
            obtain ⟨ce, h1, h2, h3⟩ := va_thr hK hP (ci := 17) (q0 := 5) rfl rfl
            subst hQe
            exact vx_outP hown hlocks (by rw [hxt]; exact (List.forall_mem_cons.mpr ⟨Or.inl (by decide), (fun _ h => nomatch h)⟩)) h1 h2 h3 (fun t10 e10 _ => ⟨(), trivial, (⟨Or.inr (Or.inr (Or.inl (⟨rfl, rot_x2 h7jt h7ja h7jb hva hvb e_3 e_5 hq5 hpU⟩))), by rw [e10]; exact hP.sub (ws' := [((xa 7), .inl (dA 4, 8, .inr (.inr (.inr (.inr (fun k => some (rm k)))))))]) [0] rfl⟩ : (_ ∧ _)), hS.F e10⟩) hS.2.2 (by first | decide | omega) (by first | decide | omega)
          obtain ⟨ra_7, rfl⟩ : ∃ z, z = ra9 := ⟨_, rfl⟩
          obtain ⟨mr_7, M_7⟩ := u9
          have e_7 := hq
          have sm_7 : MSm M_7 := mulS_sm (sR jb (by omega)) (sR ja (by omega)) e_7
          clear hq
          have hP : va_P (dC, dI) vwCl [((xa 7), .inl (dA 4, 8, .inr (.inr (.inr (.inr (fun k => some (rm k))))))), (ra_3, .inr (0, [.ref mr_3, .long (M_3 0)])), (mr_3, .inl (dA 1, 32, .inr (.inl (fun j => M_3 (j + 1))))), (ra_5, .inr (0, [.ref mr_5, .long (M_5 0)])), (mr_5, .inl (dA 1, 32, .inr (.inl (fun j => M_5 (j + 1))))), (ra_7, .inr (0, [.ref mr_7, .long (M_7 0)])), (mr_7, .inl (dA 1, 32, .inr (.inl (fun j => M_7 (j + 1)))))] H := hP
          have hD : va_D A [((xa 7), .inl (dA 4, 8, .inr (.inr (.inr (.inr (fun k => some (rm k))))))), (ra_3, .inr (0, [.ref mr_3, .long (M_3 0)])), (mr_3, .inl (dA 1, 32, .inr (.inl (fun j => M_3 (j + 1))))), (ra_5, .inr (0, [.ref mr_5, .long (M_5 0)])), (mr_5, .inl (dA 1, 32, .inr (.inl (fun j => M_5 (j + 1))))), (ra_7, .inr (0, [.ref mr_7, .long (M_7 0)])), (mr_7, .inl (dA 1, 32, .inr (.inl (fun j => M_7 (j + 1)))))] := hD
          refine lv_iconst (v := nI 1) hx hb dX1_rotor_138 (by decide) ?_
          have hF9 := va_free (wc := []) hD hS (fun q h => hA q h) [] rfl
          refine x_r (wc := []) (wr := [((xa 7), .inl (dA 4, 8, .inr (.inr (.inr (.inr (fun k => some (rm k))))))), (ra_3, .inr (0, [.ref mr_3, .long (M_3 0)])), (mr_3, .inl (dA 1, 32, .inr (.inl (fun j => M_3 (j + 1))))), (ra_5, .inr (0, [.ref mr_5, .long (M_5 0)])), (mr_5, .inl (dA 1, 32, .inr (.inl (fun j => M_5 (j + 1))))), (ra_7, .inr (0, [.ref mr_7, .long (M_7 0)])), (mr_7, .inl (dA 1, 32, .inr (.inl (fun j => M_7 (j + 1)))))]) (vx_runV (As := [.ref ra_7, .int (nI 1)]) (rest := []) ⟨hx, hb, hml, hown, hts⟩ (x6_plus Z (va_A [] H.size) H.size (fun q h => Or.inr h) Y ra_3 mr_3 M_3 ra_7 mr_7 M_7 (nI 1) (Or.inl rfl) sm_3 sm_7) (cwV 2 hts (lw_V q1008 q641 q642 q102 q643) rfl rfl rfl (by decide +kernel) ⟨Nat.le_of_ble_eq_true rfl, Nat.le_of_ble_eq_true rfl⟩) (gP_V (va_recv hK hP (ci := 0) (q0 := 1) rfl rfl) hG hS (fun q _ h => hF9 q h) ⟨rfl, (RO.beside (wr := [(ra_3, .inr (0, [.ref mr_3, .long (M_3 0)])), (mr_3, .inl (dA 1, 32, .inr (.inl (fun j => M_3 (j + 1)))))]) hP hD [] [1, 2] rfl rfl (by decide)), (RO.beside (wr := [(ra_7, .inr (0, [.ref mr_7, .long (M_7 0)])), (mr_7, .inl (dA 1, 32, .inr (.inl (fun j => M_7 (j + 1)))))]) hP hD [] [5, 6] rfl rfl (by decide))⟩) rfl rfl hl.1 rfl (lv_room (Nat.le_of_ble_eq_true rfl)) dX1_rotor_139 ⟨by first | decide | omega | (show _ ≤ (30 : Nat); omega), by first | decide | omega | (show _ ≤ (400 : Nat); omega)⟩) hP hD hS hA [] [0, 1, 2, 3, 4, 5, 6] rfl rfl (by decide) (by decide) (fun E ce q9 u9 t9 H locs ht9 hp9 hb9 hz hP hS h1 h2 h3 => ?_) (fun u9 ra9 H locs hq hX hz hk hP hD hS => ?_)
          · have hD := hD.sub (ws' := [((xa 7), .inl (dA 4, 8, .inr (.inr (.inr (.inr (fun k => some (rm k))))))), (ra_3, .inr (0, [.ref mr_3, .long (M_3 0)])), (mr_3, .inl (dA 1, 32, .inr (.inl (fun j => M_3 (j + 1))))), (ra_5, .inr (0, [.ref mr_5, .long (M_5 0)])), (mr_5, .inl (dA 1, 32, .inr (.inl (fun j => M_5 (j + 1))))), (ra_7, .inr (0, [.ref mr_7, .long (M_7 0)])), (mr_7, .inl (dA 1, 32, .inr (.inl (fun j => M_7 (j + 1)))))]) [0, 1, 2, 3, 4, 5, 6] (by decide) rfl
            have hP : va_P (dC, dI) vwCl [((xa 7), .inl (dA 4, 8, .inr (.inr (.inr (.inr (fun k => some (rm k))))))), (ra_3, .inr (0, [.ref mr_3, .long (M_3 0)])), (mr_3, .inl (dA 1, 32, .inr (.inl (fun j => M_3 (j + 1))))), (ra_5, .inr (0, [.ref mr_5, .long (M_5 0)])), (mr_5, .inl (dA 1, 32, .inr (.inl (fun j => M_5 (j + 1))))), (ra_7, .inr (0, [.ref mr_7, .long (M_7 0)])), (mr_7, .inl (dA 1, 32, .inr (.inl (fun j => M_7 (j + 1)))))] H := hP
            have hD : va_D A [((xa 7), .inl (dA 4, 8, .inr (.inr (.inr (.inr (fun k => some (rm k))))))), (ra_3, .inr (0, [.ref mr_3, .long (M_3 0)])), (mr_3, .inl (dA 1, 32, .inr (.inl (fun j => M_3 (j + 1))))), (ra_5, .inr (0, [.ref mr_5, .long (M_5 0)])), (mr_5, .inl (dA 1, 32, .inr (.inl (fun j => M_5 (j + 1))))), (ra_7, .inr (0, [.ref mr_7, .long (M_7 0)])), (mr_7, .inl (dA 1, 32, .inr (.inl (fun j => M_7 (j + 1)))))] := hD
            subst hb9
            refine vx_catch (name := "BladeAlgebra$Unfit") (E := "BladeAlgebra$Unfit") (ce := ce) hown [] ⟨64, 182, 183, 179⟩ [] hxt (fun _ h => nomatch h) (by decide) (by decide) (hts _ q468) (castZ Z hG q523) h1 h2 h3 ?_
            have hpU := hp9
            refine lv_astore (lv' := [(6, .ref q9), (7, .ref ra_5), (5, .ref (rm jb)), (4, .ref (rm ja)), (0, .ref (xa 0)), (1, .int (nI jt)), (2, .int (nI ja)), (3, .int (nI jb))]) hx hb dX1_rotor_183 hl (by decide) rfl (fun ls hl => ?_)
            have hF9 := va_free (wc := []) hD hS (fun q h => hA q h) [] rfl
            refine c_r (wr := [((xa 7), .inl (dA 4, 8, .inr (.inr (.inr (.inr (fun k => some (rm k))))))), (ra_3, .inr (0, [.ref mr_3, .long (M_3 0)])), (mr_3, .inl (dA 1, 32, .inr (.inl (fun j => M_3 (j + 1))))), (ra_5, .inr (0, [.ref mr_5, .long (M_5 0)])), (mr_5, .inl (dA 1, 32, .inr (.inl (fun j => M_5 (j + 1))))), (ra_7, .inr (0, [.ref mr_7, .long (M_7 0)])), (mr_7, .inl (dA 1, 32, .inr (.inl (fun j => M_7 (j + 1)))))]) (va_runS (As := []) (rest := []) ⟨hx, hb, hml, hown, hts⟩ (x1_large Z (va_A [] H.size) H.size (fun q h => Or.inr h) Y) (va_cwS 0 hts (lw_S q562 q563 q96 q564) rfl rfl rfl (by decide +kernel) ⟨Nat.le_of_ble_eq_true rfl, Nat.le_of_ble_eq_true rfl⟩) (gP_S hG hS (fun q _ h => hF9 q h) rfl) rfl rfl hl.1 rfl (lv_room (Nat.le_of_ble_eq_true rfl)) dX1_rotor_185 ⟨by first | decide | omega | (show _ ≤ (30 : Nat); omega), by first | decide | omega | (show _ ≤ (400 : Nat); omega)⟩) hP hD hS hA [] [0, 1, 2, 3, 4, 5, 6] rfl rfl (by decide) (by decide) (fun u9 ra9 H locs hq hX hz hk hP hD hS => ?_)
            obtain ⟨ra_8, rfl⟩ : ∃ z, z = ra9 := ⟨_, rfl⟩
            have hP : va_P (dC, dI) vwCl [((xa 7), .inl (dA 4, 8, .inr (.inr (.inr (.inr (fun k => some (rm k))))))), (ra_3, .inr (0, [.ref mr_3, .long (M_3 0)])), (mr_3, .inl (dA 1, 32, .inr (.inl (fun j => M_3 (j + 1))))), (ra_5, .inr (0, [.ref mr_5, .long (M_5 0)])), (mr_5, .inl (dA 1, 32, .inr (.inl (fun j => M_5 (j + 1))))), (ra_7, .inr (0, [.ref mr_7, .long (M_7 0)])), (mr_7, .inl (dA 1, 32, .inr (.inl (fun j => M_7 (j + 1))))), (ra_8, .inr (17, []))] H := hP
            have hD : va_D A [((xa 7), .inl (dA 4, 8, .inr (.inr (.inr (.inr (fun k => some (rm k))))))), (ra_3, .inr (0, [.ref mr_3, .long (M_3 0)])), (mr_3, .inl (dA 1, 32, .inr (.inl (fun j => M_3 (j + 1))))), (ra_5, .inr (0, [.ref mr_5, .long (M_5 0)])), (mr_5, .inl (dA 1, 32, .inr (.inl (fun j => M_5 (j + 1))))), (ra_7, .inr (0, [.ref mr_7, .long (M_7 0)])), (mr_7, .inl (dA 1, 32, .inr (.inl (fun j => M_7 (j + 1))))), (ra_8, .inr (17, []))] := hD
            refine vx_athrow hx hb dX1_rotor_188 ?_
            obtain ⟨ce, h1, h2, h3⟩ := va_thr hK hP (ci := 17) (q0 := 7) rfl rfl
            subst hQe
            exact vx_outP hown hlocks (by rw [hxt]; exact (List.forall_mem_cons.mpr ⟨Or.inl (by decide), (fun _ h => nomatch h)⟩)) h1 h2 h3 (fun t10 e10 _ => ⟨(), trivial, (⟨Or.inr (Or.inr (Or.inl (⟨rfl, rot_x3 h7jt h7ja h7jb hva hvb e_3 e_5 e_7 hq5 hpU⟩))), by rw [e10]; exact hP.sub (ws' := [((xa 7), .inl (dA 4, 8, .inr (.inr (.inr (.inr (fun k => some (rm k)))))))]) [0] rfl⟩ : (_ ∧ _)), hS.F e10⟩) hS.2.2 (by first | decide | omega) (by first | decide | omega)
          obtain ⟨ra_9, rfl⟩ : ∃ z, z = ra9 := ⟨_, rfl⟩
          obtain ⟨mr_9, M_9⟩ := u9
          have e_9 := hq
          have sm_9 : MSm M_9 := addS_sm sm_3 sm_7 e_9
          clear hq
          have hP : va_P (dC, dI) vwCl [((xa 7), .inl (dA 4, 8, .inr (.inr (.inr (.inr (fun k => some (rm k))))))), (ra_3, .inr (0, [.ref mr_3, .long (M_3 0)])), (mr_3, .inl (dA 1, 32, .inr (.inl (fun j => M_3 (j + 1))))), (ra_5, .inr (0, [.ref mr_5, .long (M_5 0)])), (mr_5, .inl (dA 1, 32, .inr (.inl (fun j => M_5 (j + 1))))), (ra_7, .inr (0, [.ref mr_7, .long (M_7 0)])), (mr_7, .inl (dA 1, 32, .inr (.inl (fun j => M_7 (j + 1))))), (ra_9, .inr (0, [.ref mr_9, .long (M_9 0)])), (mr_9, .inl (dA 1, 32, .inr (.inl (fun j => M_9 (j + 1)))))] H := hP
          have hD : va_D A [((xa 7), .inl (dA 4, 8, .inr (.inr (.inr (.inr (fun k => some (rm k))))))), (ra_3, .inr (0, [.ref mr_3, .long (M_3 0)])), (mr_3, .inl (dA 1, 32, .inr (.inl (fun j => M_3 (j + 1))))), (ra_5, .inr (0, [.ref mr_5, .long (M_5 0)])), (mr_5, .inl (dA 1, 32, .inr (.inl (fun j => M_5 (j + 1))))), (ra_7, .inr (0, [.ref mr_7, .long (M_7 0)])), (mr_7, .inl (dA 1, 32, .inr (.inl (fun j => M_7 (j + 1))))), (ra_9, .inr (0, [.ref mr_9, .long (M_9 0)])), (mr_9, .inl (dA 1, 32, .inr (.inl (fun j => M_9 (j + 1)))))] := hD
          refine lv_astore (lv' := [(8, .ref ra_9), (7, .ref ra_5), (6, .ref ra_3), (5, .ref (rm jb)), (4, .ref (rm ja)), (0, .ref (xa 0)), (1, .int (nI jt)), (2, .int (nI ja)), (3, .int (nI jb))]) hx hb dX1_rotor_142 hl (by decide) rfl (fun ls hl => ?_)
          refine lv_aload_n hx hb dX1_rotor_144 rfl (lv_at hl 5 rfl) ?_
          refine va_get (D := (dC, dI)) (ci := 3) (v := .ref (xa 3)) (C := RX1) (T := TX1) (N := 9) hx hb hts in_X1 hown hK (hR0.up hS) 0 rfl rfl 2 (by decide) (hts _ q286) (fun _ h9 => h9) rfl dX1_rotor_145 ?_
          refine va_getN (D := (dC, dI)) (ci := 4) (v := .ref ga) (C := RX4) (T := TX4) (N := 2) hx hb hts in_X4 hown hK (hR0.up hS) 1 rfl rfl 0 (by decide) (((va_Nw.warmF hG.1 (va_Nw.of rfl (Z.2.1 _ q240)))).use rfl) (fun _ h9 => h9) rfl dX1_rotor_148 ?_
          refine lv_aload hx hb dX1_rotor_151 (lv_at hl 0 rfl) ?_
          refine lv_aload hx hb dX1_rotor_153 (lv_at hl 0 rfl) ?_
          have hF9 := va_free (wc := []) hD hS (fun q h => hA q h) [] rfl
          refine c_r (wr := [((xa 7), .inl (dA 4, 8, .inr (.inr (.inr (.inr (fun k => some (rm k))))))), (ra_3, .inr (0, [.ref mr_3, .long (M_3 0)])), (mr_3, .inl (dA 1, 32, .inr (.inl (fun j => M_3 (j + 1))))), (ra_5, .inr (0, [.ref mr_5, .long (M_5 0)])), (mr_5, .inl (dA 1, 32, .inr (.inl (fun j => M_5 (j + 1))))), (ra_7, .inr (0, [.ref mr_7, .long (M_7 0)])), (mr_7, .inl (dA 1, 32, .inr (.inl (fun j => M_7 (j + 1))))), (ra_9, .inr (0, [.ref mr_9, .long (M_9 0)])), (mr_9, .inl (dA 1, 32, .inr (.inl (fun j => M_9 (j + 1)))))]) (va_runS (As := [.ref ra_9]) (rest := [.ref ra_9, .ref ga]) ⟨hx, hb, hml, hown, hts⟩ (x1_reverse Z (va_A [] H.size) H.size (fun q h => Or.inr h) Y p0 q0 r0 ra_9 mr_9 M_9 hn sm_9 (rot_sp pR (by omega) (by omega) e_3 e_7 e_9)) (va_cwS 1 hts (lw_S q1028 q754 q96 q755) rfl rfl rfl (by decide +kernel) ⟨Nat.le_of_ble_eq_true rfl, Nat.le_of_ble_eq_true rfl⟩) (gP_S hG hS (fun q _ h => hF9 q h) ⟨rfl, (RO.beside (wr := [(ra_9, .inr (0, [.ref mr_9, .long (M_9 0)])), (mr_9, .inl (dA 1, 32, .inr (.inl (fun j => M_9 (j + 1)))))]) hP hD [] [7, 8] rfl rfl (by decide))⟩) rfl rfl hl.1 rfl (lv_room (Nat.le_of_ble_eq_true rfl)) dX1_rotor_155 ⟨by first | decide | omega | (show _ ≤ (30 : Nat); omega), by first | decide | omega | (show _ ≤ (400 : Nat); omega)⟩) hP hD hS hA [] [0, 1, 2, 3, 4, 5, 6, 7, 8] rfl rfl (by decide) (by decide) (fun u9 ra9 H locs hq hX hz hk hP hD hS => ?_)
          obtain ⟨ra_10, rfl⟩ : ∃ z, z = ra9 := ⟨_, rfl⟩
          obtain ⟨mr_10, rfl⟩ : ∃ z, z = u9 := ⟨_, rfl⟩
          have hP : va_P (dC, dI) vwCl [((xa 7), .inl (dA 4, 8, .inr (.inr (.inr (.inr (fun k => some (rm k))))))), (ra_3, .inr (0, [.ref mr_3, .long (M_3 0)])), (mr_3, .inl (dA 1, 32, .inr (.inl (fun j => M_3 (j + 1))))), (ra_5, .inr (0, [.ref mr_5, .long (M_5 0)])), (mr_5, .inl (dA 1, 32, .inr (.inl (fun j => M_5 (j + 1))))), (ra_7, .inr (0, [.ref mr_7, .long (M_7 0)])), (mr_7, .inl (dA 1, 32, .inr (.inl (fun j => M_7 (j + 1))))), (ra_9, .inr (0, [.ref mr_9, .long (M_9 0)])), (mr_9, .inl (dA 1, 32, .inr (.inl (fun j => M_9 (j + 1))))), (ra_10, .inr (0, [.ref mr_10, .long ((trnS 0 p0 q0 r0 M_9) 0)])), (mr_10, .inl (dA 1, 32, .inr (.inl (fun j => (trnS 0 p0 q0 r0 M_9) (j + 1)))))] H := hP
          have hD : va_D A [((xa 7), .inl (dA 4, 8, .inr (.inr (.inr (.inr (fun k => some (rm k))))))), (ra_3, .inr (0, [.ref mr_3, .long (M_3 0)])), (mr_3, .inl (dA 1, 32, .inr (.inl (fun j => M_3 (j + 1))))), (ra_5, .inr (0, [.ref mr_5, .long (M_5 0)])), (mr_5, .inl (dA 1, 32, .inr (.inl (fun j => M_5 (j + 1))))), (ra_7, .inr (0, [.ref mr_7, .long (M_7 0)])), (mr_7, .inl (dA 1, 32, .inr (.inl (fun j => M_7 (j + 1))))), (ra_9, .inr (0, [.ref mr_9, .long (M_9 0)])), (mr_9, .inl (dA 1, 32, .inr (.inl (fun j => M_9 (j + 1))))), (ra_10, .inr (0, [.ref mr_10, .long ((trnS 0 p0 q0 r0 M_9) 0)])), (mr_10, .inl (dA 1, 32, .inr (.inl (fun j => (trnS 0 p0 q0 r0 M_9) (j + 1)))))] := hD
          have hF9 := va_free (wc := []) hD hS (fun q h => hA q h) [] rfl
          refine x_r (wc := []) (wr := [((xa 7), .inl (dA 4, 8, .inr (.inr (.inr (.inr (fun k => some (rm k))))))), (ra_3, .inr (0, [.ref mr_3, .long (M_3 0)])), (mr_3, .inl (dA 1, 32, .inr (.inl (fun j => M_3 (j + 1))))), (ra_5, .inr (0, [.ref mr_5, .long (M_5 0)])), (mr_5, .inl (dA 1, 32, .inr (.inl (fun j => M_5 (j + 1))))), (ra_7, .inr (0, [.ref mr_7, .long (M_7 0)])), (mr_7, .inl (dA 1, 32, .inr (.inl (fun j => M_7 (j + 1))))), (ra_9, .inr (0, [.ref mr_9, .long (M_9 0)])), (mr_9, .inl (dA 1, 32, .inr (.inl (fun j => M_9 (j + 1))))), (ra_10, .inr (0, [.ref mr_10, .long ((trnS 0 p0 q0 r0 M_9) 0)])), (mr_10, .inl (dA 1, 32, .inr (.inl (fun j => (trnS 0 p0 q0 r0 M_9) (j + 1)))))]) (vx_runV (As := [.ref ra_9, .ref ra_10]) (rest := []) ⟨hx, hb, hml, hown, hts⟩ (x5_product2 Z (va_A [] H.size) H.size (fun q h => Or.inr h) Y ga sg sr p0 q0 r0 ra_9 mr_9 M_9 ra_10 mr_10 (trnS 0 p0 q0 r0 M_9) sm_9 (trnS_sm hn sm_9)) (cwV 2 hts (lw_V q859 q652 q653 q101 q654) rfl rfl rfl (by decide +kernel) ⟨Nat.le_of_ble_eq_true rfl, Nat.le_of_ble_eq_true rfl⟩) (gP_V (va_recv hK (hR1.up hS) (ci := 1) (q0 := 0) rfl rfl) hG hS (fun q _ h => hF9 q h) ⟨rfl, (RO.beside (wr := [(ra_9, .inr (0, [.ref mr_9, .long (M_9 0)])), (mr_9, .inl (dA 1, 32, .inr (.inl (fun j => M_9 (j + 1)))))]) hP hD [] [7, 8] rfl rfl (by decide)), (RO.beside (wr := [(ra_10, .inr (0, [.ref mr_10, .long ((trnS 0 p0 q0 r0 M_9) 0)])), (mr_10, .inl (dA 1, 32, .inr (.inl (fun j => (trnS 0 p0 q0 r0 M_9) (j + 1)))))]) hP hD [] [9, 10] rfl rfl (by decide)), (hAG.to hS (fun q _ h => hF9 q h))⟩) rfl rfl hl.1 rfl (lv_room (Nat.le_of_ble_eq_true rfl)) dX1_rotor_158 ⟨by first | decide | omega | (show _ ≤ (30 : Nat); omega), by first | decide | omega | (show _ ≤ (400 : Nat); omega)⟩) hP hD hS hA [] [0, 1, 2, 3, 4, 5, 6, 7, 8, 9, 10] rfl rfl (by decide) (by decide) (fun E ce q9 u9 t9 H locs ht9 hp9 hb9 hz hP hS h1 h2 h3 => ?_) (fun u9 ra9 H locs hq hX hz hk hP hD hS => ?_)
          · have hD := hD.sub (ws' := [((xa 7), .inl (dA 4, 8, .inr (.inr (.inr (.inr (fun k => some (rm k))))))), (ra_3, .inr (0, [.ref mr_3, .long (M_3 0)])), (mr_3, .inl (dA 1, 32, .inr (.inl (fun j => M_3 (j + 1))))), (ra_5, .inr (0, [.ref mr_5, .long (M_5 0)])), (mr_5, .inl (dA 1, 32, .inr (.inl (fun j => M_5 (j + 1))))), (ra_7, .inr (0, [.ref mr_7, .long (M_7 0)])), (mr_7, .inl (dA 1, 32, .inr (.inl (fun j => M_7 (j + 1))))), (ra_9, .inr (0, [.ref mr_9, .long (M_9 0)])), (mr_9, .inl (dA 1, 32, .inr (.inl (fun j => M_9 (j + 1))))), (ra_10, .inr (0, [.ref mr_10, .long ((trnS 0 p0 q0 r0 M_9) 0)])), (mr_10, .inl (dA 1, 32, .inr (.inl (fun j => (trnS 0 p0 q0 r0 M_9) (j + 1)))))]) [0, 1, 2, 3, 4, 5, 6, 7, 8, 9, 10] (by decide) rfl
            have hP : va_P (dC, dI) vwCl [((xa 7), .inl (dA 4, 8, .inr (.inr (.inr (.inr (fun k => some (rm k))))))), (ra_3, .inr (0, [.ref mr_3, .long (M_3 0)])), (mr_3, .inl (dA 1, 32, .inr (.inl (fun j => M_3 (j + 1))))), (ra_5, .inr (0, [.ref mr_5, .long (M_5 0)])), (mr_5, .inl (dA 1, 32, .inr (.inl (fun j => M_5 (j + 1))))), (ra_7, .inr (0, [.ref mr_7, .long (M_7 0)])), (mr_7, .inl (dA 1, 32, .inr (.inl (fun j => M_7 (j + 1))))), (ra_9, .inr (0, [.ref mr_9, .long (M_9 0)])), (mr_9, .inl (dA 1, 32, .inr (.inl (fun j => M_9 (j + 1))))), (ra_10, .inr (0, [.ref mr_10, .long ((trnS 0 p0 q0 r0 M_9) 0)])), (mr_10, .inl (dA 1, 32, .inr (.inl (fun j => (trnS 0 p0 q0 r0 M_9) (j + 1)))))] H := hP
            have hD : va_D A [((xa 7), .inl (dA 4, 8, .inr (.inr (.inr (.inr (fun k => some (rm k))))))), (ra_3, .inr (0, [.ref mr_3, .long (M_3 0)])), (mr_3, .inl (dA 1, 32, .inr (.inl (fun j => M_3 (j + 1))))), (ra_5, .inr (0, [.ref mr_5, .long (M_5 0)])), (mr_5, .inl (dA 1, 32, .inr (.inl (fun j => M_5 (j + 1))))), (ra_7, .inr (0, [.ref mr_7, .long (M_7 0)])), (mr_7, .inl (dA 1, 32, .inr (.inl (fun j => M_7 (j + 1))))), (ra_9, .inr (0, [.ref mr_9, .long (M_9 0)])), (mr_9, .inl (dA 1, 32, .inr (.inl (fun j => M_9 (j + 1))))), (ra_10, .inr (0, [.ref mr_10, .long ((trnS 0 p0 q0 r0 M_9) 0)])), (mr_10, .inl (dA 1, 32, .inr (.inl (fun j => (trnS 0 p0 q0 r0 M_9) (j + 1)))))] := hD
            subst hb9
            refine vx_catch (name := "BladeAlgebra$Unfit") (E := "BladeAlgebra$Unfit") (ce := ce) hown [] ⟨64, 182, 183, 179⟩ [] hxt (fun _ h => nomatch h) (by decide) (by decide) (hts _ q468) (castZ Z hG q523) h1 h2 h3 ?_
            have hpU := hp9
            refine lv_astore (lv' := [(6, .ref q9), (8, .ref ra_9), (7, .ref ra_5), (5, .ref (rm jb)), (4, .ref (rm ja)), (0, .ref (xa 0)), (1, .int (nI jt)), (2, .int (nI ja)), (3, .int (nI jb))]) hx hb dX1_rotor_183 hl (by decide) rfl (fun ls hl => ?_)
            have hF9 := va_free (wc := []) hD hS (fun q h => hA q h) [] rfl
            refine c_r (wr := [((xa 7), .inl (dA 4, 8, .inr (.inr (.inr (.inr (fun k => some (rm k))))))), (ra_3, .inr (0, [.ref mr_3, .long (M_3 0)])), (mr_3, .inl (dA 1, 32, .inr (.inl (fun j => M_3 (j + 1))))), (ra_5, .inr (0, [.ref mr_5, .long (M_5 0)])), (mr_5, .inl (dA 1, 32, .inr (.inl (fun j => M_5 (j + 1))))), (ra_7, .inr (0, [.ref mr_7, .long (M_7 0)])), (mr_7, .inl (dA 1, 32, .inr (.inl (fun j => M_7 (j + 1))))), (ra_9, .inr (0, [.ref mr_9, .long (M_9 0)])), (mr_9, .inl (dA 1, 32, .inr (.inl (fun j => M_9 (j + 1))))), (ra_10, .inr (0, [.ref mr_10, .long ((trnS 0 p0 q0 r0 M_9) 0)])), (mr_10, .inl (dA 1, 32, .inr (.inl (fun j => (trnS 0 p0 q0 r0 M_9) (j + 1)))))]) (va_runS (As := []) (rest := []) ⟨hx, hb, hml, hown, hts⟩ (x1_large Z (va_A [] H.size) H.size (fun q h => Or.inr h) Y) (va_cwS 0 hts (lw_S q562 q563 q96 q564) rfl rfl rfl (by decide +kernel) ⟨Nat.le_of_ble_eq_true rfl, Nat.le_of_ble_eq_true rfl⟩) (gP_S hG hS (fun q _ h => hF9 q h) rfl) rfl rfl hl.1 rfl (lv_room (Nat.le_of_ble_eq_true rfl)) dX1_rotor_185 ⟨by first | decide | omega | (show _ ≤ (30 : Nat); omega), by first | decide | omega | (show _ ≤ (400 : Nat); omega)⟩) hP hD hS hA [] [0, 1, 2, 3, 4, 5, 6, 7, 8, 9, 10] rfl rfl (by decide) (by decide) (fun u9 ra9 H locs hq hX hz hk hP hD hS => ?_)
            obtain ⟨ra_11, rfl⟩ : ∃ z, z = ra9 := ⟨_, rfl⟩
            have hP : va_P (dC, dI) vwCl [((xa 7), .inl (dA 4, 8, .inr (.inr (.inr (.inr (fun k => some (rm k))))))), (ra_3, .inr (0, [.ref mr_3, .long (M_3 0)])), (mr_3, .inl (dA 1, 32, .inr (.inl (fun j => M_3 (j + 1))))), (ra_5, .inr (0, [.ref mr_5, .long (M_5 0)])), (mr_5, .inl (dA 1, 32, .inr (.inl (fun j => M_5 (j + 1))))), (ra_7, .inr (0, [.ref mr_7, .long (M_7 0)])), (mr_7, .inl (dA 1, 32, .inr (.inl (fun j => M_7 (j + 1))))), (ra_9, .inr (0, [.ref mr_9, .long (M_9 0)])), (mr_9, .inl (dA 1, 32, .inr (.inl (fun j => M_9 (j + 1))))), (ra_10, .inr (0, [.ref mr_10, .long ((trnS 0 p0 q0 r0 M_9) 0)])), (mr_10, .inl (dA 1, 32, .inr (.inl (fun j => (trnS 0 p0 q0 r0 M_9) (j + 1))))), (ra_11, .inr (17, []))] H := hP
            have hD : va_D A [((xa 7), .inl (dA 4, 8, .inr (.inr (.inr (.inr (fun k => some (rm k))))))), (ra_3, .inr (0, [.ref mr_3, .long (M_3 0)])), (mr_3, .inl (dA 1, 32, .inr (.inl (fun j => M_3 (j + 1))))), (ra_5, .inr (0, [.ref mr_5, .long (M_5 0)])), (mr_5, .inl (dA 1, 32, .inr (.inl (fun j => M_5 (j + 1))))), (ra_7, .inr (0, [.ref mr_7, .long (M_7 0)])), (mr_7, .inl (dA 1, 32, .inr (.inl (fun j => M_7 (j + 1))))), (ra_9, .inr (0, [.ref mr_9, .long (M_9 0)])), (mr_9, .inl (dA 1, 32, .inr (.inl (fun j => M_9 (j + 1))))), (ra_10, .inr (0, [.ref mr_10, .long ((trnS 0 p0 q0 r0 M_9) 0)])), (mr_10, .inl (dA 1, 32, .inr (.inl (fun j => (trnS 0 p0 q0 r0 M_9) (j + 1))))), (ra_11, .inr (17, []))] := hD
            refine vx_athrow hx hb dX1_rotor_188 ?_
            obtain ⟨ce, h1, h2, h3⟩ := va_thr hK hP (ci := 17) (q0 := 11) rfl rfl
            subst hQe
            exact vx_outP hown hlocks (by rw [hxt]; exact (List.forall_mem_cons.mpr ⟨Or.inl (by decide), (fun _ h => nomatch h)⟩)) h1 h2 h3 (fun t10 e10 _ => ⟨(), trivial, (⟨Or.inr (Or.inr (Or.inl (⟨rfl, rot_x4 h7jt h7ja h7jb hva hvb e_3 e_5 e_7 e_9 hq5 hpU⟩))), by rw [e10]; exact hP.sub (ws' := [((xa 7), .inl (dA 4, 8, .inr (.inr (.inr (.inr (fun k => some (rm k)))))))]) [0] rfl⟩ : (_ ∧ _)), hS.F e10⟩) hS.2.2 (by first | decide | omega) (by first | decide | omega)
          obtain ⟨ra_12, rfl⟩ : ∃ z, z = ra9 := ⟨_, rfl⟩
          obtain ⟨mr_12, M_12⟩ := u9
          have e_12 := hq
          have sm_12 : MSm M_12 := mulS_sm sm_9 (trnS_sm hn sm_9) e_12
          clear hq
          have hP : va_P (dC, dI) vwCl [((xa 7), .inl (dA 4, 8, .inr (.inr (.inr (.inr (fun k => some (rm k))))))), (ra_3, .inr (0, [.ref mr_3, .long (M_3 0)])), (mr_3, .inl (dA 1, 32, .inr (.inl (fun j => M_3 (j + 1))))), (ra_5, .inr (0, [.ref mr_5, .long (M_5 0)])), (mr_5, .inl (dA 1, 32, .inr (.inl (fun j => M_5 (j + 1))))), (ra_7, .inr (0, [.ref mr_7, .long (M_7 0)])), (mr_7, .inl (dA 1, 32, .inr (.inl (fun j => M_7 (j + 1))))), (ra_9, .inr (0, [.ref mr_9, .long (M_9 0)])), (mr_9, .inl (dA 1, 32, .inr (.inl (fun j => M_9 (j + 1))))), (ra_10, .inr (0, [.ref mr_10, .long ((trnS 0 p0 q0 r0 M_9) 0)])), (mr_10, .inl (dA 1, 32, .inr (.inl (fun j => (trnS 0 p0 q0 r0 M_9) (j + 1))))), (ra_12, .inr (0, [.ref mr_12, .long (M_12 0)])), (mr_12, .inl (dA 1, 32, .inr (.inl (fun j => M_12 (j + 1)))))] H := hP
          have hD : va_D A [((xa 7), .inl (dA 4, 8, .inr (.inr (.inr (.inr (fun k => some (rm k))))))), (ra_3, .inr (0, [.ref mr_3, .long (M_3 0)])), (mr_3, .inl (dA 1, 32, .inr (.inl (fun j => M_3 (j + 1))))), (ra_5, .inr (0, [.ref mr_5, .long (M_5 0)])), (mr_5, .inl (dA 1, 32, .inr (.inl (fun j => M_5 (j + 1))))), (ra_7, .inr (0, [.ref mr_7, .long (M_7 0)])), (mr_7, .inl (dA 1, 32, .inr (.inl (fun j => M_7 (j + 1))))), (ra_9, .inr (0, [.ref mr_9, .long (M_9 0)])), (mr_9, .inl (dA 1, 32, .inr (.inl (fun j => M_9 (j + 1))))), (ra_10, .inr (0, [.ref mr_10, .long ((trnS 0 p0 q0 r0 M_9) 0)])), (mr_10, .inl (dA 1, 32, .inr (.inl (fun j => (trnS 0 p0 q0 r0 M_9) (j + 1))))), (ra_12, .inr (0, [.ref mr_12, .long (M_12 0)])), (mr_12, .inl (dA 1, 32, .inr (.inl (fun j => M_12 (j + 1)))))] := hD
          obtain ⟨gr, Yg⟩ : ∃ g, SG (dC, dI) dA g s0 := ⟨_, SS.gr Y⟩
          refine s_i (va_runV (As := []) (rest := []) ⟨hx, hb, hml, hown, hts⟩ (x6_grades Z gr Yg ra_12 mr_12 M_12) (cwV 0 hts (lw_V q1027 q772 q773 q102 q774) rfl rfl rfl (by decide +kernel) ⟨Nat.le_of_ble_eq_true rfl, Nat.le_of_ble_eq_true rfl⟩) (gP_V (va_recv hK hP (ci := 0) (q0 := 11) rfl rfl) hG hS (fun q _ h => h.elim) (hP.sub (ws' := [(ra_12, .inr (0, [.ref mr_12, .long (M_12 0)])), (mr_12, .inl (dA 1, 32, .inr (.inl (fun j => M_12 (j + 1)))))]) [11, 12] rfl)) rfl rfl hl.1 rfl (lv_room (Nat.le_of_ble_eq_true rfl)) dX1_rotor_161 ⟨by first | decide | omega | (show _ ≤ (30 : Nat); omega), by first | decide | omega | (show _ ≤ (400 : Nat); omega)⟩) ?_
          have hgb9 := grN_lt M_12 32 (by decide)
          have hgb : grS M_12 < 64 := hgb9
          refine lv_if_eq (tgt := 171) hx hb dX1_rotor_164 (by decide) (fun c_164 => ?_) (fun c_164 => ?_)
          · have c_164 : (grS M_12) = 0 := (nI_eq (a := (grS M_12)) (b := 0) (by omega) (by omega)).mp c_164
            have hE0 := gr_trm c_164
            refine lv_iconst (v := nI 0) hx hb dX1_rotor_171 (by decide) ?_
            have hF9 := va_free (wc := []) hD hS (fun q h => hA q h) [] rfl
            refine x_v (wc := []) (wr := [((xa 7), .inl (dA 4, 8, .inr (.inr (.inr (.inr (fun k => some (rm k))))))), (ra_3, .inr (0, [.ref mr_3, .long (M_3 0)])), (mr_3, .inl (dA 1, 32, .inr (.inl (fun j => M_3 (j + 1))))), (ra_5, .inr (0, [.ref mr_5, .long (M_5 0)])), (mr_5, .inl (dA 1, 32, .inr (.inl (fun j => M_5 (j + 1))))), (ra_7, .inr (0, [.ref mr_7, .long (M_7 0)])), (mr_7, .inl (dA 1, 32, .inr (.inl (fun j => M_7 (j + 1))))), (ra_9, .inr (0, [.ref mr_9, .long (M_9 0)])), (mr_9, .inl (dA 1, 32, .inr (.inl (fun j => M_9 (j + 1))))), (ra_10, .inr (0, [.ref mr_10, .long ((trnS 0 p0 q0 r0 M_9) 0)])), (mr_10, .inl (dA 1, 32, .inr (.inl (fun j => (trnS 0 p0 q0 r0 M_9) (j + 1))))), (ra_12, .inr (0, [.ref mr_12, .long (M_12 0)])), (mr_12, .inl (dA 1, 32, .inr (.inl (fun j => M_12 (j + 1)))))]) (vx_runS (As := [.int (nI 0)]) (rest := []) ⟨hx, hb, hml, hown, hts⟩ (x1_supported Z (va_A [] H.size) H.size (fun q h => Or.inr h) (SS.st Y) (σ 53) (SS.st3 Y) false) (va_cwS 1 hts (lw_S q1030 q1031 q96 q1032) rfl rfl rfl (by decide +kernel) ⟨Nat.le_of_ble_eq_true rfl, Nat.le_of_ble_eq_true rfl⟩) (gP_S hG hS (fun q _ h => hF9 q h) rfl) rfl rfl hl.1 rfl (lv_room (Nat.le_of_ble_eq_true rfl)) dX1_rotor_172 ⟨by first | decide | omega | (show _ ≤ (30 : Nat); omega), by first | decide | omega | (show _ ≤ (400 : Nat); omega)⟩) hP hD hS hA [] [0, 1, 2, 3, 4, 5, 6, 7, 8, 9, 10, 11, 12] rfl rfl (by decide) (by decide) (fun E ce q9 u9 t9 H locs ht9 hp9 hb9 hz hP hS h1 h2 h3 => ?_) (fun u9 H locs hq hX hz hk hP hD hS => ?_)
            · have hD := hD.sub (ws' := [((xa 7), .inl (dA 4, 8, .inr (.inr (.inr (.inr (fun k => some (rm k))))))), (ra_3, .inr (0, [.ref mr_3, .long (M_3 0)])), (mr_3, .inl (dA 1, 32, .inr (.inl (fun j => M_3 (j + 1))))), (ra_5, .inr (0, [.ref mr_5, .long (M_5 0)])), (mr_5, .inl (dA 1, 32, .inr (.inl (fun j => M_5 (j + 1))))), (ra_7, .inr (0, [.ref mr_7, .long (M_7 0)])), (mr_7, .inl (dA 1, 32, .inr (.inl (fun j => M_7 (j + 1))))), (ra_9, .inr (0, [.ref mr_9, .long (M_9 0)])), (mr_9, .inl (dA 1, 32, .inr (.inl (fun j => M_9 (j + 1))))), (ra_10, .inr (0, [.ref mr_10, .long ((trnS 0 p0 q0 r0 M_9) 0)])), (mr_10, .inl (dA 1, 32, .inr (.inl (fun j => (trnS 0 p0 q0 r0 M_9) (j + 1))))), (ra_12, .inr (0, [.ref mr_12, .long (M_12 0)])), (mr_12, .inl (dA 1, 32, .inr (.inl (fun j => M_12 (j + 1)))))]) [0, 1, 2, 3, 4, 5, 6, 7, 8, 9, 10, 11, 12] (by decide) rfl
              have hP : va_P (dC, dI) vwCl [((xa 7), .inl (dA 4, 8, .inr (.inr (.inr (.inr (fun k => some (rm k))))))), (ra_3, .inr (0, [.ref mr_3, .long (M_3 0)])), (mr_3, .inl (dA 1, 32, .inr (.inl (fun j => M_3 (j + 1))))), (ra_5, .inr (0, [.ref mr_5, .long (M_5 0)])), (mr_5, .inl (dA 1, 32, .inr (.inl (fun j => M_5 (j + 1))))), (ra_7, .inr (0, [.ref mr_7, .long (M_7 0)])), (mr_7, .inl (dA 1, 32, .inr (.inl (fun j => M_7 (j + 1))))), (ra_9, .inr (0, [.ref mr_9, .long (M_9 0)])), (mr_9, .inl (dA 1, 32, .inr (.inl (fun j => M_9 (j + 1))))), (ra_10, .inr (0, [.ref mr_10, .long ((trnS 0 p0 q0 r0 M_9) 0)])), (mr_10, .inl (dA 1, 32, .inr (.inl (fun j => (trnS 0 p0 q0 r0 M_9) (j + 1))))), (ra_12, .inr (0, [.ref mr_12, .long (M_12 0)])), (mr_12, .inl (dA 1, 32, .inr (.inl (fun j => M_12 (j + 1)))))] H := hP
              have hD : va_D A [((xa 7), .inl (dA 4, 8, .inr (.inr (.inr (.inr (fun k => some (rm k))))))), (ra_3, .inr (0, [.ref mr_3, .long (M_3 0)])), (mr_3, .inl (dA 1, 32, .inr (.inl (fun j => M_3 (j + 1))))), (ra_5, .inr (0, [.ref mr_5, .long (M_5 0)])), (mr_5, .inl (dA 1, 32, .inr (.inl (fun j => M_5 (j + 1))))), (ra_7, .inr (0, [.ref mr_7, .long (M_7 0)])), (mr_7, .inl (dA 1, 32, .inr (.inl (fun j => M_7 (j + 1))))), (ra_9, .inr (0, [.ref mr_9, .long (M_9 0)])), (mr_9, .inl (dA 1, 32, .inr (.inl (fun j => M_9 (j + 1))))), (ra_10, .inr (0, [.ref mr_10, .long ((trnS 0 p0 q0 r0 M_9) 0)])), (mr_10, .inl (dA 1, 32, .inr (.inl (fun j => (trnS 0 p0 q0 r0 M_9) (j + 1))))), (ra_12, .inr (0, [.ref mr_12, .long (M_12 0)])), (mr_12, .inl (dA 1, 32, .inr (.inl (fun j => M_12 (j + 1)))))] := hD
              subst hb9
              subst hQe
              exact vx_outP hown hlocks (by rw [hxt]; exact (List.forall_mem_cons.mpr ⟨Or.inr ⟨by decide, "BladeAlgebra$Unfit", hts _ q468, ncZ Z hG nc_UnsupportedOperationException_Unfit⟩, (fun _ h => nomatch h)⟩)) h1 h2 h3 (fun t10 e10 _ => ⟨(), trivial, (⟨Or.inr (Or.inr (Or.inr (⟨rfl, rot_u h7jt h7ja h7jb hva hvb e_3 e_5 e_7 e_9 e_12 hq5 hE0⟩))), by rw [e10]; exact hP.sub (ws' := [((xa 7), .inl (dA 4, 8, .inr (.inr (.inr (.inr (fun k => some (rm k)))))))]) [0] rfl⟩ : (_ ∧ _)), hS.F e10⟩) hS.2.2 (by first | decide | omega) (by first | decide | omega)
            exact absurd hq (by decide)
          · have c_164 : ¬ (grS M_12) = 0 := fun h => c_164 ((nI_eq (a := (grS M_12)) (b := 0) (by omega) (by omega)).mpr h)
            have hE1 := fun c => c_164 (trm_gr c)
            refine lv_iconst (v := nI 1) hx hb dX1_rotor_167 (by decide) ?_
            refine lv_goto (tgt := 172) hx hb dX1_rotor_168 (by decide) ?_
            have hF9 := va_free (wc := []) hD hS (fun q h => hA q h) [] rfl
            refine x_v (wc := []) (wr := [((xa 7), .inl (dA 4, 8, .inr (.inr (.inr (.inr (fun k => some (rm k))))))), (ra_3, .inr (0, [.ref mr_3, .long (M_3 0)])), (mr_3, .inl (dA 1, 32, .inr (.inl (fun j => M_3 (j + 1))))), (ra_5, .inr (0, [.ref mr_5, .long (M_5 0)])), (mr_5, .inl (dA 1, 32, .inr (.inl (fun j => M_5 (j + 1))))), (ra_7, .inr (0, [.ref mr_7, .long (M_7 0)])), (mr_7, .inl (dA 1, 32, .inr (.inl (fun j => M_7 (j + 1))))), (ra_9, .inr (0, [.ref mr_9, .long (M_9 0)])), (mr_9, .inl (dA 1, 32, .inr (.inl (fun j => M_9 (j + 1))))), (ra_10, .inr (0, [.ref mr_10, .long ((trnS 0 p0 q0 r0 M_9) 0)])), (mr_10, .inl (dA 1, 32, .inr (.inl (fun j => (trnS 0 p0 q0 r0 M_9) (j + 1))))), (ra_12, .inr (0, [.ref mr_12, .long (M_12 0)])), (mr_12, .inl (dA 1, 32, .inr (.inl (fun j => M_12 (j + 1)))))]) (vx_runS (As := [.int (nI 1)]) (rest := []) ⟨hx, hb, hml, hown, hts⟩ (x1_supported Z (va_A [] H.size) H.size (fun q h => Or.inr h) (SS.st Y) (σ 53) (SS.st3 Y) true) (va_cwS 1 hts (lw_S q1030 q1031 q96 q1032) rfl rfl rfl (by decide +kernel) ⟨Nat.le_of_ble_eq_true rfl, Nat.le_of_ble_eq_true rfl⟩) (gP_S hG hS (fun q _ h => hF9 q h) rfl) rfl rfl hl.1 rfl (lv_room (Nat.le_of_ble_eq_true rfl)) dX1_rotor_172 ⟨by first | decide | omega | (show _ ≤ (30 : Nat); omega), by first | decide | omega | (show _ ≤ (400 : Nat); omega)⟩) hP hD hS hA [] [0, 1, 2, 3, 4, 5, 6, 7, 8, 9, 10, 11, 12] rfl rfl (by decide) (by decide) (fun E ce q9 u9 t9 H locs ht9 hp9 hb9 hz hP hS h1 h2 h3 => ?_) (fun u9 H locs hq hX hz hk hP hD hS => ?_)
            · have hD := hD.sub (ws' := [((xa 7), .inl (dA 4, 8, .inr (.inr (.inr (.inr (fun k => some (rm k))))))), (ra_3, .inr (0, [.ref mr_3, .long (M_3 0)])), (mr_3, .inl (dA 1, 32, .inr (.inl (fun j => M_3 (j + 1))))), (ra_5, .inr (0, [.ref mr_5, .long (M_5 0)])), (mr_5, .inl (dA 1, 32, .inr (.inl (fun j => M_5 (j + 1))))), (ra_7, .inr (0, [.ref mr_7, .long (M_7 0)])), (mr_7, .inl (dA 1, 32, .inr (.inl (fun j => M_7 (j + 1))))), (ra_9, .inr (0, [.ref mr_9, .long (M_9 0)])), (mr_9, .inl (dA 1, 32, .inr (.inl (fun j => M_9 (j + 1))))), (ra_10, .inr (0, [.ref mr_10, .long ((trnS 0 p0 q0 r0 M_9) 0)])), (mr_10, .inl (dA 1, 32, .inr (.inl (fun j => (trnS 0 p0 q0 r0 M_9) (j + 1))))), (ra_12, .inr (0, [.ref mr_12, .long (M_12 0)])), (mr_12, .inl (dA 1, 32, .inr (.inl (fun j => M_12 (j + 1)))))]) [0, 1, 2, 3, 4, 5, 6, 7, 8, 9, 10, 11, 12] (by decide) rfl
              have hP : va_P (dC, dI) vwCl [((xa 7), .inl (dA 4, 8, .inr (.inr (.inr (.inr (fun k => some (rm k))))))), (ra_3, .inr (0, [.ref mr_3, .long (M_3 0)])), (mr_3, .inl (dA 1, 32, .inr (.inl (fun j => M_3 (j + 1))))), (ra_5, .inr (0, [.ref mr_5, .long (M_5 0)])), (mr_5, .inl (dA 1, 32, .inr (.inl (fun j => M_5 (j + 1))))), (ra_7, .inr (0, [.ref mr_7, .long (M_7 0)])), (mr_7, .inl (dA 1, 32, .inr (.inl (fun j => M_7 (j + 1))))), (ra_9, .inr (0, [.ref mr_9, .long (M_9 0)])), (mr_9, .inl (dA 1, 32, .inr (.inl (fun j => M_9 (j + 1))))), (ra_10, .inr (0, [.ref mr_10, .long ((trnS 0 p0 q0 r0 M_9) 0)])), (mr_10, .inl (dA 1, 32, .inr (.inl (fun j => (trnS 0 p0 q0 r0 M_9) (j + 1))))), (ra_12, .inr (0, [.ref mr_12, .long (M_12 0)])), (mr_12, .inl (dA 1, 32, .inr (.inl (fun j => M_12 (j + 1)))))] H := hP
              have hD : va_D A [((xa 7), .inl (dA 4, 8, .inr (.inr (.inr (.inr (fun k => some (rm k))))))), (ra_3, .inr (0, [.ref mr_3, .long (M_3 0)])), (mr_3, .inl (dA 1, 32, .inr (.inl (fun j => M_3 (j + 1))))), (ra_5, .inr (0, [.ref mr_5, .long (M_5 0)])), (mr_5, .inl (dA 1, 32, .inr (.inl (fun j => M_5 (j + 1))))), (ra_7, .inr (0, [.ref mr_7, .long (M_7 0)])), (mr_7, .inl (dA 1, 32, .inr (.inl (fun j => M_7 (j + 1))))), (ra_9, .inr (0, [.ref mr_9, .long (M_9 0)])), (mr_9, .inl (dA 1, 32, .inr (.inl (fun j => M_9 (j + 1))))), (ra_10, .inr (0, [.ref mr_10, .long ((trnS 0 p0 q0 r0 M_9) 0)])), (mr_10, .inl (dA 1, 32, .inr (.inl (fun j => (trnS 0 p0 q0 r0 M_9) (j + 1))))), (ra_12, .inr (0, [.ref mr_12, .long (M_12 0)])), (mr_12, .inl (dA 1, 32, .inr (.inl (fun j => M_12 (j + 1)))))] := hD
              exact absurd hp9 (by decide)
            have hg172 : true = true := hq
            clear hq
            have hP : va_P (dC, dI) vwCl [((xa 7), .inl (dA 4, 8, .inr (.inr (.inr (.inr (fun k => some (rm k))))))), (ra_3, .inr (0, [.ref mr_3, .long (M_3 0)])), (mr_3, .inl (dA 1, 32, .inr (.inl (fun j => M_3 (j + 1))))), (ra_5, .inr (0, [.ref mr_5, .long (M_5 0)])), (mr_5, .inl (dA 1, 32, .inr (.inl (fun j => M_5 (j + 1))))), (ra_7, .inr (0, [.ref mr_7, .long (M_7 0)])), (mr_7, .inl (dA 1, 32, .inr (.inl (fun j => M_7 (j + 1))))), (ra_9, .inr (0, [.ref mr_9, .long (M_9 0)])), (mr_9, .inl (dA 1, 32, .inr (.inl (fun j => M_9 (j + 1))))), (ra_10, .inr (0, [.ref mr_10, .long ((trnS 0 p0 q0 r0 M_9) 0)])), (mr_10, .inl (dA 1, 32, .inr (.inl (fun j => (trnS 0 p0 q0 r0 M_9) (j + 1))))), (ra_12, .inr (0, [.ref mr_12, .long (M_12 0)])), (mr_12, .inl (dA 1, 32, .inr (.inl (fun j => M_12 (j + 1)))))] H := hP
            have hD : va_D A [((xa 7), .inl (dA 4, 8, .inr (.inr (.inr (.inr (fun k => some (rm k))))))), (ra_3, .inr (0, [.ref mr_3, .long (M_3 0)])), (mr_3, .inl (dA 1, 32, .inr (.inl (fun j => M_3 (j + 1))))), (ra_5, .inr (0, [.ref mr_5, .long (M_5 0)])), (mr_5, .inl (dA 1, 32, .inr (.inl (fun j => M_5 (j + 1))))), (ra_7, .inr (0, [.ref mr_7, .long (M_7 0)])), (mr_7, .inl (dA 1, 32, .inr (.inl (fun j => M_7 (j + 1))))), (ra_9, .inr (0, [.ref mr_9, .long (M_9 0)])), (mr_9, .inl (dA 1, 32, .inr (.inl (fun j => M_9 (j + 1))))), (ra_10, .inr (0, [.ref mr_10, .long ((trnS 0 p0 q0 r0 M_9) 0)])), (mr_10, .inl (dA 1, 32, .inr (.inl (fun j => (trnS 0 p0 q0 r0 M_9) (j + 1))))), (ra_12, .inr (0, [.ref mr_12, .long (M_12 0)])), (mr_12, .inl (dA 1, 32, .inr (.inl (fun j => M_12 (j + 1)))))] := hD
            refine lv_aload_n hx hb dX1_rotor_175 rfl (lv_at hl 5 rfl) ?_
            refine lv_iload_n hx hb dX1_rotor_176 rfl (lv_at hl 6 rfl) ?_
            refine lv_aload hx hb dX1_rotor_177 (lv_at hl 0 rfl) ?_
            have hF9 := va_free (wc := [((xa 7), .inl (dA 4, 8, .inr (.inr (.inr (.inr (fun k => some (rm k)))))))]) hD hS (fun q h => hA q h) [0] rfl
            refine c_i (wr := [(ra_3, .inr (0, [.ref mr_3, .long (M_3 0)])), (mr_3, .inl (dA 1, 32, .inr (.inl (fun j => M_3 (j + 1))))), (ra_5, .inr (0, [.ref mr_5, .long (M_5 0)])), (mr_5, .inl (dA 1, 32, .inr (.inl (fun j => M_5 (j + 1))))), (ra_7, .inr (0, [.ref mr_7, .long (M_7 0)])), (mr_7, .inl (dA 1, 32, .inr (.inl (fun j => M_7 (j + 1))))), (ra_9, .inr (0, [.ref mr_9, .long (M_9 0)])), (mr_9, .inl (dA 1, 32, .inr (.inl (fun j => M_9 (j + 1))))), (ra_10, .inr (0, [.ref mr_10, .long ((trnS 0 p0 q0 r0 M_9) 0)])), (mr_10, .inl (dA 1, 32, .inr (.inl (fun j => (trnS 0 p0 q0 r0 M_9) (j + 1))))), (ra_12, .inr (0, [.ref mr_12, .long (M_12 0)])), (mr_12, .inl (dA 1, 32, .inr (.inl (fun j => M_12 (j + 1)))))]) (va_runV (As := [.int (nI jt), .ref ra_9]) (rest := []) ⟨hx, hb, hml, hown, hts⟩ (x1_store Z (va_A [((xa 7), .inl (dA 4, 8, .inr (.inr (.inr (.inr (fun k => some (rm k)))))))] H.size) H.size (fun q h => Or.inr h) Y xa tl ec ep ga (fun k => some (rm k)) jt ra_9 mr_9 M_9 (by omega)) (cwV 2 hts (lw_V q731 q733 qs6 q96 q734) rfl rfl rfl (by decide +kernel) ⟨Nat.le_of_ble_eq_true rfl, Nat.le_of_ble_eq_true rfl⟩) (gP_V (va_recv hK (hR0.up hS) (ci := 3) (q0 := 0) rfl rfl) hG hS (fun q _ h => hF9 q h) ⟨rfl, (hP.sub (ws' := [((xa 7), .inl (dA 4, 8, .inr (.inr (.inr (.inr (fun k => some (rm k)))))))]) [0] rfl), (hD.sub (ws' := [((xa 7), .inl (dA 4, 8, .inr (.inr (.inr (.inr (fun k => some (rm k)))))))]) [0] (by decide) rfl).self, (hR0.to hS (fun q _ h => hF9 q h)), (RO.beside (wr := [(ra_9, .inr (0, [.ref mr_9, .long (M_9 0)])), (mr_9, .inl (dA 1, 32, .inr (.inl (fun j => M_9 (j + 1)))))]) hP hD [0] [7, 8] rfl rfl (by decide))⟩) rfl rfl hl.1 rfl (lv_room (Nat.le_of_ble_eq_true rfl)) dX1_rotor_179 ⟨by first | decide | omega | (show _ ≤ (30 : Nat); omega), by first | decide | omega | (show _ ≤ (400 : Nat); omega)⟩) hP hD hS hA [0] [1, 2, 3, 4, 5, 6, 7, 8, 9, 10, 11, 12] rfl rfl (by decide) (by decide) (fun r9 u9 H locs hq hX hz hk hP hD hS => ?_)
            obtain ⟨r_13, rfl⟩ : ∃ z, z = r9 := ⟨_, rfl⟩
            subst hq
            have hP : va_P (dC, dI) vwCl [(ra_3, .inr (0, [.ref mr_3, .long (M_3 0)])), (mr_3, .inl (dA 1, 32, .inr (.inl (fun j => M_3 (j + 1))))), (ra_5, .inr (0, [.ref mr_5, .long (M_5 0)])), (mr_5, .inl (dA 1, 32, .inr (.inl (fun j => M_5 (j + 1))))), (ra_7, .inr (0, [.ref mr_7, .long (M_7 0)])), (mr_7, .inl (dA 1, 32, .inr (.inl (fun j => M_7 (j + 1))))), (ra_9, .inr (0, [.ref mr_9, .long (M_9 0)])), (mr_9, .inl (dA 1, 32, .inr (.inl (fun j => M_9 (j + 1))))), (ra_10, .inr (0, [.ref mr_10, .long ((trnS 0 p0 q0 r0 M_9) 0)])), (mr_10, .inl (dA 1, 32, .inr (.inl (fun j => (trnS 0 p0 q0 r0 M_9) (j + 1))))), (ra_12, .inr (0, [.ref mr_12, .long (M_12 0)])), (mr_12, .inl (dA 1, 32, .inr (.inl (fun j => M_12 (j + 1))))), ((xa 7), .inl (dA 4, 8, .inr (.inr (.inr (.inr (va_up (fun k => some (rm k)) jt (some ra_9)))))))] H := hP
            have hD : va_D A [(ra_3, .inr (0, [.ref mr_3, .long (M_3 0)])), (mr_3, .inl (dA 1, 32, .inr (.inl (fun j => M_3 (j + 1))))), (ra_5, .inr (0, [.ref mr_5, .long (M_5 0)])), (mr_5, .inl (dA 1, 32, .inr (.inl (fun j => M_5 (j + 1))))), (ra_7, .inr (0, [.ref mr_7, .long (M_7 0)])), (mr_7, .inl (dA 1, 32, .inr (.inl (fun j => M_7 (j + 1))))), (ra_9, .inr (0, [.ref mr_9, .long (M_9 0)])), (mr_9, .inl (dA 1, 32, .inr (.inl (fun j => M_9 (j + 1))))), (ra_10, .inr (0, [.ref mr_10, .long ((trnS 0 p0 q0 r0 M_9) 0)])), (mr_10, .inl (dA 1, 32, .inr (.inl (fun j => (trnS 0 p0 q0 r0 M_9) (j + 1))))), (ra_12, .inr (0, [.ref mr_12, .long (M_12 0)])), (mr_12, .inl (dA 1, 32, .inr (.inl (fun j => M_12 (j + 1))))), ((xa 7), .inl (dA 4, 8, .inr (.inr (.inr (.inr (va_up (fun k => some (rm k)) jt (some ra_9)))))))] := hD
            have e8 : rg (nI jt) = jt := rg_n (by omega)
            subst hQe
            refine vx_ret ?_
            refine W.widen (k := 30) (n := 400) (by first | decide | omega) (by first | decide | omega) ?_
            exact W.iret (v := nI (trmS M_9)) hx hb hr (fun tz ht hW => ⟨⟨_, (ra_9, mr_9, M_9), rfl, ⟨rot_ok h7jt h7ja h7jb hva hvb e_3 e_5 e_7 e_9 e_12 hq5 hE1, rfl⟩, B1_at ht (by rw [e8]; exact hP.sub [12] rfl) (by rw [e8]; exact hD.sub [12] (by decide) rfl) (⟨hP.sub [6, 7] rfl, Or.inl ⟨fresh_of hD hAf 12 6 rfl rfl (by decide), fresh_of hD hAf 12 7 rfl rfl (by decide)⟩⟩)⟩, hS.F ht⟩) hS.2.2 dX1_rotor_182
set_option maxHeartbeats 4000000 in
theorem x1_vector {l : Launch} {dC : Nat → ClassId} {dI : Nat → Nat → Nat} {dA : Nat → ClassId} {s0 : State} {b0 : Addr} (Z : Z0 l dC dI dA s0 b0) (A : Nat → Prop) (sz : Nat) (hA : ∀ q : Nat, sz ≤ q → A q) {σ : Nat → Nat} (Y : SS (dC, dI) dA σ s0) (va : Nat) (fv : Nat → Int64) (uu : Int64) (hu : 0 < aN uu) (hum : uu ≠ Int64.minValue) (hfv : ∀ k, k < 5 → fv k ≠ Int64.minValue) : vx_Met l yX1_vector (ws_ yX1_vector cX1_vector 5 (some (.object "BladeAlgebra$Multi"))) ({ frames := 6, cells := 2, slots := 38, locals := 360 } : Room) (gP [.ref va, .long uu] s0 A (fun H => H.size = sz ∧ RO A (dC, dI) [(va, .inl (dA 1, 5, .inr (.inl fv)))] H)) (va_Qr (S := Nat × MV) (fun u => fitG uu (pvS fv 5) = some u.2) (B1r (dC, dI) A (fun u q => MA dA q u.1 u.2) (fun _ _ _ => True)) A) (vx_X (S := Unit) (fun _ => fitG uu (pvS fv 5) = none) (fun _ E _ _ => E = "BladeAlgebra$Unfit") A) 2 38 A := by
  refine vx_ofW (cc := cX1_vector) (maxL := 5) (ret := (some (.object "BladeAlgebra$Multi"))) (by decide) rfl ?_
  intro p e s m args below meth c s₁ B hml hnoH hv
  obtain ⟨hav, hG, hsz, hR0⟩ := hv
  have hx := B.exec
  have hb := B.bytes
  have hr := B.returns
  have hts := atoms_spec (ws := (ws_ yX1_vector cX1_vector 5 (some (.object "BladeAlgebra$Multi")))) B.pre
  have hts : ∀ w ∈ lw_all, w.before _ s = true := fun w h => hts w (List.mem_cons_of_mem _ h)
  have hown : s.vm.findClass RX1 = some m.cls := findClass_of_methodNamed B.named
  have hlocks := B.notSynchronized
  have hK := hG.K Z
  subst hsz
  have hS : va_S A s.heap s.heap [] := va_S.rf
  have hP : va_P (dC, dI) vwCl [] s.heap := fun k q h => by simp at h
  have hD : va_D A [] := ⟨fun i j p q h => by simp at h, fun k q h => by simp at h⟩
  have hl := lv_entry ([.ref va, .long uu]) (n := 5) (Nat.le_of_ble_eq_true rfl)
  rw [show entryFrame m args 5 = entryFrame m ([.ref va, .long uu] : List Value).toArray 5 from by rw [hav], lg_entry_eq]
  generalize (lg_sl ([.ref va, .long uu]) ++ List.replicate (5 - (lg_sl ([.ref va, .long uu])).length) Slot.unset).toArray = ls at hl ⊢
  have hl : lv_has ls 5 [(0, .ref va), (1, .long uu)] := hl
  generalize hQe : vx_MQ below _ _ _ s _ _ _ = Q
  change W p l e ({ frames := 6, cells := 2, slots := 38, locals := 360 } : Room) s m args below meth c s.heap [] 0 0 Q (F0 m 0 ls [])
  refine lv_bipush (v := nI 32) hx hb dX1_vector_0 (by decide) ?_
  refine a_newa (D := (dC, dI)) (atype := .long) (N' := 32) (a0 := (32, .inr (.inl (fun _ => 0)))) hx hb (hts _ q542) rfl hK hP hD hS hA 1 rfl (fun _ => ra_long) (fun _ => rfl) (by decide) (by decide) (by decide) (by first | decide | omega) (by first | decide | omega) dX1_vector_2 (fun na_1 H locs hP hD hS => ?_)
  have hP : va_P (dC, dI) vwCl [(na_1, .inl (dA 1, 32, .inr (.inl (fun _ => 0))))] H := hP
  have hD : va_D A [(na_1, .inl (dA 1, 32, .inr (.inl (fun _ => 0))))] := hD
  refine lv_astore_n (lv' := [(3, .ref na_1), (0, .ref va), (1, .long uu)]) hx hb dX1_vector_4 rfl hl (by decide) rfl (fun ls hl => ?_)
  refine lv_iconst (v := nI 0) hx hb dX1_vector_5 (by decide) ?_
  refine lv_istore (lv' := [(4, .int (nI 0)), (3, .ref na_1), (0, .ref va), (1, .long uu)]) hx hb dX1_vector_6 hl (by decide) rfl (fun ls hl => ?_)
  have e9 : (fun _ => 0 : Nat → Int64) = (pvS fv 0) := rfl
  rw [e9] at hP hD; clear e9
  have loop_2 : ∀ (n9_2 : Nat) (k : Nat) (H : Heap) (locs : List Loc) (ls : Array Slot), 5 - k < n9_2 → (k ≤ 5) → va_P (dC, dI) vwCl [(na_1, .inl (dA 1, 32, .inr (.inl (pvS fv k))))] H → va_D A [(na_1, .inl (dA 1, 32, .inr (.inl (pvS fv k))))] → va_S A s.heap H locs → lv_has ls 5 [(0, .ref va), (1, .long uu), (3, .ref na_1), (4, .int (nI k))] → W p l e ({ frames := 6, cells := 2, slots := 38, locals := 360 } : Room) s m args below meth c H locs (0 + 1) (0 + 32) Q (F0 m 8 ls []) := by
    intro n9_2
    induction n9_2 with
    | zero => intro k H locs ls hm_2; exact absurd hm_2 (Nat.not_lt_zero _)
    | succ n9_2 ih_2 =>
      intro k H locs ls hm_2 hk9 hP hD hS hl
      have h2k := (pow5 hk9).1
      refine lv_iload hx hb dX1_vector_8 (lv_at hl 3 rfl) ?_
      refine lv_iconst (v := nI 5) hx hb dX1_vector_10 (by decide) ?_
      refine lv_icmp_ge (tgt := 30) hx hb dX1_vector_11 (by decide) (fun c_11 => ?_) (fun c_11 => ?_)
      · have c_11 : 5 ≤ k := (nI_leI (a := 5) (b := k) (by omega) (by omega)).mp c_11
        obtain rfl : k = 5 := by omega
        refine lv_aload_n hx hb dX1_vector_30 rfl (lv_at hl 2 rfl) ?_
        refine lv_lload_n hx hb dX1_vector_31 rfl (lv_at hl 1 rfl) ?_
        have hF9 := va_free (wc := [(na_1, .inl (dA 1, 32, .inr (.inl (pvS fv 5))))]) hD hS (fun q h => hA q h) [0] rfl
        refine x_r (wc := [(na_1, .inl (dA 1, 32, .inr (.inl (pvS fv 5))))]) (wr := []) (vx_runS (As := [.ref na_1, .long uu]) (rest := []) ⟨hx, hb, hml, hown, hts⟩ (x6_fit Z (va_A [(na_1, .inl (dA 1, 32, .inr (.inl (pvS fv 5))))] H.size) H.size (fun q h => Or.inr h) Y na_1 uu (pvS fv 5) hu hum (fun j _ => pv_nm hfv j)) (va_cwS 2 hts (lw_S q903 q511 q102 q512) rfl rfl rfl (by decide +kernel) ⟨Nat.le_of_ble_eq_true rfl, Nat.le_of_ble_eq_true rfl⟩) (gP_S hG hS (fun q _ h => hF9 q h) ⟨rfl, (hP.sub (ws' := [(na_1, .inl (dA 1, 32, .inr (.inl (pvS fv 5))))]) [0] rfl), (hD.sub (ws' := [(na_1, .inl (dA 1, 32, .inr (.inl (pvS fv 5))))]) [0] (by decide) rfl).self⟩) rfl rfl hl.1 rfl (lv_room (Nat.le_of_ble_eq_true rfl)) dX1_vector_32 ⟨by first | decide | omega | (show _ ≤ (2 : Nat); omega), by first | decide | omega | (show _ ≤ (38 : Nat); omega)⟩) hP hD hS hA [0] [] rfl rfl (by decide) (by decide) (fun E ce q9 u9 t9 H locs ht9 hp9 hb9 hz hP hS h1 h2 h3 => ?_) (fun u9 ra9 H locs hq hX hz hk hP hD hS => ?_)
        · have hD := hD.sub (ws' := []) [] (by decide) rfl
          have hP : va_P (dC, dI) vwCl [] H := hP
          have hD : va_D A [] := hD
          subst hb9
          subst hQe
          exact vx_out (fun x h => (hnoH x h).elim) hlocks h1 h2 h3 (fun t10 e10 _ => ⟨(), hp9, rfl, hS.F e10⟩) hS.2.2 (by first | decide | omega) (by first | decide | omega)
        obtain ⟨ra_3, rfl⟩ : ∃ z, z = ra9 := ⟨_, rfl⟩
        have e_3 := hq
        obtain ⟨M_3, rfl⟩ : ∃ z, z = u9 := ⟨_, rfl⟩
        have sm_3 : MSm M_3 := fitG_sm hu hum e_3
        have hP : va_P (dC, dI) vwCl [(ra_3, .inr (0, [.ref na_1, .long (M_3 0)])), (na_1, .inl (dA 1, 32, .inr (.inl (fun j => M_3 (j + 1)))))] H := hP
        have hD : va_D A [(ra_3, .inr (0, [.ref na_1, .long (M_3 0)])), (na_1, .inl (dA 1, 32, .inr (.inl (fun j => M_3 (j + 1)))))] := hD
        subst hQe
        refine vx_ret ?_
        refine W.widen (k := 2) (n := 38) (by first | decide | omega) (by first | decide | omega) ?_
        exact W.aret (v := .ref ra_3) hx hb hr (Or.inl ⟨_, rfl⟩) (Or.inr ⟨_, rfl⟩) (fun tz ht hW => ⟨⟨(na_1, M_3), ra_3, rfl, e_3, B1r_at ht (hP.sub [0, 1] rfl) (hD.sub [0, 1] (by decide) rfl) trivial⟩, hS.F ht⟩) hS.2.2 dX1_vector_35
      · have c_11 : ¬ 5 ≤ k := fun h => c_11 ((nI_leI (a := 5) (b := k) (by omega) (by omega)).mpr h)
        have h2k9 := p5 (show k < 5 by omega)
        refine lv_aload_n hx hb dX1_vector_14 rfl (lv_at hl 2 rfl) ?_
        refine lv_iconst (v := nI 1) hx hb dX1_vector_15 (by decide) ?_
        refine lv_iload hx hb dX1_vector_16 (lv_at hl 3 rfl) ?_
        refine lv_ishl hx hb dX1_vector_18 ?_
        refine e_i (y := nI (2 ^ k)) (n_shl1 (by omega)) ?_
        refine lv_aload_n hx hb dX1_vector_19 rfl (lv_at hl 0 rfl) ?_
        refine lv_iload hx hb dX1_vector_20 (lv_at hl 3 rfl) ?_
        refine a_lald hx hb hK (hR0.up hS) 0 1 rfl rfl (by omega) (by omega) dX1_vector_22 ?_
        refine a_last hx hb hK hP hD hS 0 1 rfl rfl (by omega) (by omega) dX1_vector_23 (fun H locs hP hD hS => ?_)
        have hP : va_P (dC, dI) vwCl [(na_1, .inl (dA 1, 32, .inr (.inl (vp_updL (pvS fv k) (2 ^ k) (fv k)))))] H := hP
        have hD : va_D A [(na_1, .inl (dA 1, 32, .inr (.inl (vp_updL (pvS fv k) (2 ^ k) (fv k)))))] := hD
        have e9 : (vp_updL (pvS fv k) (2 ^ k) (fv k) : Nat → Int64) = (pvS fv (k + 1)) := rfl
        rw [e9] at hP hD; clear e9
        refine lv_iinc (v := nI (k + 1)) (lv' := [(4, .int (nI (k + 1))), (0, .ref va), (1, .long uu), (3, .ref na_1)]) hx hb dX1_vector_24 hl (k := 3) rfl (by exact nI_add _ 1) (by decide) rfl (fun ls hl => ?_)
        refine lv_goto (tgt := 8) hx hb dX1_vector_27 (by decide) ?_
        exact ih_2 (k + 1) H locs ls (by omega) (by omega) (hP.sub [0] rfl) (hD.sub [0] (by decide) rfl) hS (lv_sub hl [1, 2, 3, 0] rfl)
  exact loop_2 _ 0 H locs ls (Nat.lt_succ_self _) (by omega) hP hD hS (lv_sub hl [2, 3, 1, 0] rfl)
set_option maxHeartbeats 4000000 in
theorem x1_isConformal {l : Launch} {dC : Nat → ClassId} {dI : Nat → Nat → Nat} {dA : Nat → ClassId} {s0 : State} {b0 : Addr} (Z : Z0 l dC dI dA s0 b0) {σ : Nat → Nat} (Y : SS (dC, dI) dA σ s0) (xa : Nat → Nat) (tl : Nat) (ec ep : Int32) (ga sg : Nat) (p0 q0 r0 : Nat) (hp5 : p0 + q0 + r0 ≤ 5) : Met l yX1_isConformal (ws_ yX1_isConformal cX1_isConformal 1 (some .boolean)) ({ frames := 2, cells := 0, slots := 0, locals := 120 } : Room) (gP [.ref (xa 0)] s0 (fun _ => False) (fun H => va_P (dC, dI) vwCl [((xa 0), .inr (3, xFs xa tl ec ep)), ((xa 3), .inr (4, [.ref ga, .ref (xa 7)])), (ga, .inr (1, [.int (nI p0), .int (nI q0), .int (nI r0), .int (nI (p0 + q0 + r0)), .int (nI (2 ^ (p0 + q0 + r0) - 1)), .ref sg]))] H)) (vp_Si (fun r => r = bI (cfB p0 q0 r0))) 0 0 (fun _ => False) := by
  refine Met.ofW (cc := cX1_isConformal) (maxL := 1) (ret := (some .boolean)) (by decide) rfl ?_
  intro p e s m args below meth c s₁ B hml hv
  obtain ⟨hav, hG, hP⟩ := hv
  have hx := B.exec
  have hb := B.bytes
  have hr := B.returns
  have hts := atoms_spec (ws := (ws_ yX1_isConformal cX1_isConformal 1 (some .boolean))) B.pre
  have hts : ∀ w ∈ lw_all, w.before _ s = true := fun w h => hts w (List.mem_cons_of_mem _ h)
  have hown : s.vm.findClass RX1 = some m.cls := findClass_of_methodNamed B.named
  have hlocks := B.notSynchronized
  have hK := hG.K Z
  have hS : va_S (fun _ => False) s.heap s.heap [] := va_S.rf
  have hl := lv_entry ([.ref (xa 0)]) (n := 1) (Nat.le_of_ble_eq_true rfl)
  rw [show entryFrame m args 1 = entryFrame m ([.ref (xa 0)] : List Value).toArray 1 from by rw [hav], lg_entry_eq]
  generalize (lg_sl ([.ref (xa 0)]) ++ List.replicate (1 - (lg_sl ([.ref (xa 0)])).length) Slot.unset).toArray = ls at hl ⊢
  have hl : lv_has ls 1 [(0, .ref (xa 0))] := hl
  generalize hQe : MQ below _ _ s _ _ _ = Q
  change W p l e ({ frames := 2, cells := 0, slots := 0, locals := 120 } : Room) s m args below meth c s.heap [] 0 0 Q (F0 m 0 ls [])
  refine lv_aload_n hx hb dX1_isConformal_0 rfl (lv_at hl 0 rfl) ?_
  refine va_get (D := (dC, dI)) (ci := 3) (v := .ref (xa 3)) (C := RX1) (T := TX1) (N := 9) hx hb hts in_X1 hown hK hP 0 rfl rfl 2 (by decide) (hts _ q286) (fun _ h9 => h9) rfl dX1_isConformal_1 ?_
  refine va_getN (D := (dC, dI)) (ci := 4) (v := .ref ga) (C := RX4) (T := TX4) (N := 2) hx hb hts in_X4 hown hK hP 1 rfl rfl 0 (by decide) (((va_Nw.warmF hG.1 (va_Nw.of rfl (Z.2.1 _ q240)))).use rfl) (fun _ h9 => h9) rfl dX1_isConformal_4 ?_
  refine va_getN (D := (dC, dI)) (ci := 1) (v := .int (nI q0)) (C := RX5) (T := TX5) (N := 6) hx hb hts in_X5 hown hK hP 2 rfl rfl 1 (by decide) (((va_Nw.warmF hG.1 (va_Nw.of rfl (Z.2.1 _ q203)))).use rfl) (fun _ h9 => h9) rfl dX1_isConformal_7 ?_
  refine lv_iconst (v := nI 1) hx hb dX1_isConformal_10 (by decide) ?_
  refine lv_icmp_ne (tgt := 54) hx hb dX1_isConformal_11 (by decide) (fun c_11 => ?_) (fun c_11 => ?_)
  · have c_11 : ¬ q0 = 1 := fun h => c_11 ((nI_eq (a := q0) (b := 1) (by omega) (by omega)).mpr h)
    refine lv_iconst (v := nI 0) hx hb dX1_isConformal_54 (by decide) ?_
    subst hQe
    exact W.zret (v := nI 0) hx hb hr rfl (fun tz ht hW => ⟨_, rfl, (by unfold cfB; rw [decide_eq_false c_11]; rfl), ht⟩) hS.2.2 dX1_isConformal_55
  · have c_11 : q0 = 1 := (nI_eq (a := q0) (b := 1) (by omega) (by omega)).mp c_11
    refine lv_aload_n hx hb dX1_isConformal_14 rfl (lv_at hl 0 rfl) ?_
    refine va_get (D := (dC, dI)) (ci := 3) (v := .ref (xa 3)) (C := RX1) (T := TX1) (N := 9) hx hb hts in_X1 hown hK hP 0 rfl rfl 2 (by decide) (hts _ q286) (fun _ h9 => h9) rfl dX1_isConformal_15 ?_
    refine va_getN (D := (dC, dI)) (ci := 4) (v := .ref ga) (C := RX4) (T := TX4) (N := 2) hx hb hts in_X4 hown hK hP 1 rfl rfl 0 (by decide) (((va_Nw.warmF hG.1 (va_Nw.of rfl (Z.2.1 _ q240)))).use rfl) (fun _ h9 => h9) rfl dX1_isConformal_18 ?_
    refine va_getN (D := (dC, dI)) (ci := 1) (v := .int (nI r0)) (C := RX5) (T := TX5) (N := 6) hx hb hts in_X5 hown hK hP 2 rfl rfl 2 (by decide) (((va_Nw.warmF hG.1 (va_Nw.of rfl (Z.2.1 _ q206)))).use rfl) (fun _ h9 => h9) rfl dX1_isConformal_21 ?_
    refine lv_if_ne (tgt := 54) hx hb dX1_isConformal_24 (by decide) (fun c_24 => ?_) (fun c_24 => ?_)
    · have c_24 : ¬ r0 = 0 := fun h => c_24 ((nI_eq (a := r0) (b := 0) (by omega) (by omega)).mpr h)
      refine lv_iconst (v := nI 0) hx hb dX1_isConformal_54 (by decide) ?_
      subst hQe
      exact W.zret (v := nI 0) hx hb hr rfl (fun tz ht hW => ⟨_, rfl, (by unfold cfB; rw [decide_eq_false (p := r0 = 0) c_24, Bool.and_false]; rfl), ht⟩) hS.2.2 dX1_isConformal_55
    · have c_24 : r0 = 0 := (nI_eq (a := r0) (b := 0) (by omega) (by omega)).mp c_24
      refine lv_aload_n hx hb dX1_isConformal_27 rfl (lv_at hl 0 rfl) ?_
      refine va_get (D := (dC, dI)) (ci := 3) (v := .ref (xa 3)) (C := RX1) (T := TX1) (N := 9) hx hb hts in_X1 hown hK hP 0 rfl rfl 2 (by decide) (hts _ q286) (fun _ h9 => h9) rfl dX1_isConformal_28 ?_
      refine va_getN (D := (dC, dI)) (ci := 4) (v := .ref ga) (C := RX4) (T := TX4) (N := 2) hx hb hts in_X4 hown hK hP 1 rfl rfl 0 (by decide) (((va_Nw.warmF hG.1 (va_Nw.of rfl (Z.2.1 _ q240)))).use rfl) (fun _ h9 => h9) rfl dX1_isConformal_31 ?_
      refine va_getN (D := (dC, dI)) (ci := 1) (v := .int (nI p0)) (C := RX5) (T := TX5) (N := 6) hx hb hts in_X5 hown hK hP 2 rfl rfl 0 (by decide) (((va_Nw.warmF hG.1 (va_Nw.of rfl (Z.2.1 _ q201)))).use rfl) (fun _ h9 => h9) rfl dX1_isConformal_34 ?_
      refine lv_i2l (v := (nI p0).toInt64) hx hb dX1_isConformal_37 rfl ?_
      refine lv_ldc2 hx hb hown (hts _ q1136) dX1_isConformal_38 ?_
      refine lv_ldc2 hx hb hown (hts _ q1137) dX1_isConformal_41 ?_
      refine s_i (va_runS (As := [.long ((nI p0).toInt64), .long (2 : Int64), .long (4 : Int64)]) (rest := []) ⟨hx, hb, hml, hown, hts⟩ (x1_isIn Z ((nI p0).toInt64) (2 : Int64) (4 : Int64)) (va_cwS 3 hts (lw_S q332 q333 q96 q334) rfl rfl rfl (by decide +kernel) ⟨Nat.le_of_ble_eq_true rfl, Nat.le_of_ble_eq_true rfl⟩) (gP_S hG hS (fun q _ h => h.elim) trivial) rfl rfl hl.1 rfl (lv_room (Nat.le_of_ble_eq_true rfl)) dX1_isConformal_44 ⟨by first | decide | omega | (show _ ≤ (0 : Nat); omega), by first | decide | omega | (show _ ≤ (0 : Nat); omega)⟩) ?_
      refine e_i (y := bI (inB (nI p0) (nI 2) (nI 4))) (congrArg bI (inL_B (nI p0) (nI 2) (nI 4))) ?_
      refine lv_if_eq (tgt := 54) hx hb dX1_isConformal_47 (by decide) (fun c_47 => ?_) (fun c_47 => ?_)
      · refine lv_iconst (v := nI 0) hx hb dX1_isConformal_54 (by decide) ?_
        subst hQe
        exact W.zret (v := nI 0) hx hb hr rfl (fun tz ht hW => ⟨_, rfl, (by rw [cf_in hp5 c_11 c_24, bI_0 c_47]; rfl), ht⟩) hS.2.2 dX1_isConformal_55
      · refine lv_iconst (v := nI 1) hx hb dX1_isConformal_50 (by decide) ?_
        refine lv_goto (tgt := 55) hx hb dX1_isConformal_51 (by decide) ?_
        subst hQe
        exact W.zret (v := nI 1) hx hb hr rfl (fun tz ht hW => ⟨_, rfl, (by rw [cf_in hp5 c_11 c_24, bI_1 c_47]; rfl), ht⟩) hS.2.2 dX1_isConformal_55
set_option maxHeartbeats 4000000 in
theorem x1_dimensions {l : Launch} {dC : Nat → ClassId} {dI : Nat → Nat → Nat} {dA : Nat → ClassId} {s0 : State} {b0 : Addr} (Z : Z0 l dC dI dA s0 b0) {σ : Nat → Nat} (Y : SS (dC, dI) dA σ s0) (xa : Nat → Nat) (tl : Nat) (ec ep : Int32) (ga sg : Nat) (p0 q0 r0 : Nat) (hp1 : 1 ≤ p0) : Met l yX1_dimensions (ws_ yX1_dimensions cX1_dimensions 1 (some .int)) ({ frames := 1, cells := 0, slots := 0, locals := 60 } : Room) (gP [.ref (xa 0)] s0 (fun _ => False) (fun H => va_P (dC, dI) vwCl [((xa 0), .inr (3, xFs xa tl ec ep)), ((xa 3), .inr (4, [.ref ga, .ref (xa 7)])), (ga, .inr (1, [.int (nI p0), .int (nI q0), .int (nI r0), .int (nI (p0 + q0 + r0)), .int (nI (2 ^ (p0 + q0 + r0) - 1)), .ref sg]))] H)) (vp_Si (fun r => r = nI (p0 - 1))) 0 0 (fun _ => False) := by
  refine Met.ofW (cc := cX1_dimensions) (maxL := 1) (ret := (some .int)) (by decide) rfl ?_
  intro p e s m args below meth c s₁ B hml hv
  obtain ⟨hav, hG, hP⟩ := hv
  have hx := B.exec
  have hb := B.bytes
  have hr := B.returns
  have hts := atoms_spec (ws := (ws_ yX1_dimensions cX1_dimensions 1 (some .int))) B.pre
  have hts : ∀ w ∈ lw_all, w.before _ s = true := fun w h => hts w (List.mem_cons_of_mem _ h)
  have hown : s.vm.findClass RX1 = some m.cls := findClass_of_methodNamed B.named
  have hlocks := B.notSynchronized
  have hK := hG.K Z
  have hS : va_S (fun _ => False) s.heap s.heap [] := va_S.rf
  have hl := lv_entry ([.ref (xa 0)]) (n := 1) (Nat.le_of_ble_eq_true rfl)
  rw [show entryFrame m args 1 = entryFrame m ([.ref (xa 0)] : List Value).toArray 1 from by rw [hav], lg_entry_eq]
  generalize (lg_sl ([.ref (xa 0)]) ++ List.replicate (1 - (lg_sl ([.ref (xa 0)])).length) Slot.unset).toArray = ls at hl ⊢
  have hl : lv_has ls 1 [(0, .ref (xa 0))] := hl
  generalize hQe : MQ below _ _ s _ _ _ = Q
  change W p l e ({ frames := 1, cells := 0, slots := 0, locals := 60 } : Room) s m args below meth c s.heap [] 0 0 Q (F0 m 0 ls [])
  refine lv_aload_n hx hb dX1_dimensions_0 rfl (lv_at hl 0 rfl) ?_
  refine va_get (D := (dC, dI)) (ci := 3) (v := .ref (xa 3)) (C := RX1) (T := TX1) (N := 9) hx hb hts in_X1 hown hK hP 0 rfl rfl 2 (by decide) (hts _ q286) (fun _ h9 => h9) rfl dX1_dimensions_1 ?_
  refine va_getN (D := (dC, dI)) (ci := 4) (v := .ref ga) (C := RX4) (T := TX4) (N := 2) hx hb hts in_X4 hown hK hP 1 rfl rfl 0 (by decide) (((va_Nw.warmF hG.1 (va_Nw.of rfl (Z.2.1 _ q240)))).use rfl) (fun _ h9 => h9) rfl dX1_dimensions_4 ?_
  refine va_getN (D := (dC, dI)) (ci := 1) (v := .int (nI p0)) (C := RX5) (T := TX5) (N := 6) hx hb hts in_X5 hown hK hP 2 rfl rfl 0 (by decide) (((va_Nw.warmF hG.1 (va_Nw.of rfl (Z.2.1 _ q201)))).use rfl) (fun _ h9 => h9) rfl dX1_dimensions_7 ?_
  refine lv_iconst (v := nI 1) hx hb dX1_dimensions_10 (by decide) ?_
  refine lv_isub hx hb dX1_dimensions_11 ?_
  refine e_i (y := nI (p0 - 1)) (pk_sub (by omega)) ?_
  subst hQe
  exact W.iret (v := nI (p0 - 1)) hx hb hr (fun tz ht hW => ⟨_, rfl, rfl, ht⟩) hS.2.2 dX1_dimensions_12
set_option maxHeartbeats 4000000 in
theorem x1_weight {l : Launch} {dC : Nat → ClassId} {dI : Nat → Nat → Nat} {dA : Nat → ClassId} {s0 : State} {b0 : Addr} (Z : Z0 l dC dI dA s0 b0) (A : Nat → Prop) (sz : Nat) (hA : ∀ q : Nat, sz ≤ q → A q) {σ : Nat → Nat} (Y : SS (dC, dI) dA σ s0) (xa : Nat → Nat) (tl : Nat) (ec ep : Int32) (ga sg : Nat) (sr : Nat → Nat) (p0 q0 r0 : Nat) (ra : Nat) (ma mr : Nat) (M : MV) (sM : MSm M) : vx_Met l yX1_weight (ws_ yX1_weight cX1_weight 5 (some .long)) ({ frames := 7, cells := 2, slots := 12, locals := 420 } : Room) (gP [.ref (xa 0), .ref ma] s0 A (fun H => H.size = sz ∧ RO A (dC, dI) [((xa 0), .inr (3, xFs xa tl ec ep)), ((xa 3), .inr (4, [.ref ga, .ref (xa 7)]))] H ∧ RO A (dC, dI) [(ma, .inr (0, [.ref mr, .long (M 0)])), (mr, .inl (dA 1, 32, .inr (.inl (fun j => M (j + 1)))))] H ∧ AG A (dC, dI) dA ga sg sr p0 q0 r0 H)) (va_Ql (S := Unit) (fun r9 _ => wsB p0 q0 r0 M = true ∧ r9 = twW p0 M) (B1 (dC, dI) A (fun _ => []) (fun _ _ => True)) A) (vx_X (S := Unit) (fun _ => wsB p0 q0 r0 M = false) (fun _ E _ _ => E = "java/lang/IllegalStateException") A) 2 12 A := by
  refine vx_ofW (cc := cX1_weight) (maxL := 5) (ret := (some .long)) (by decide) rfl ?_
  intro p e s m args below meth c s₁ B hml hnoH hv
  obtain ⟨hav, hG, hsz, hR0, hR1, hAG⟩ := hv
  have hx := B.exec
  have hb := B.bytes
  have hr := B.returns
  have hts := atoms_spec (ws := (ws_ yX1_weight cX1_weight 5 (some .long))) B.pre
  have hts : ∀ w ∈ lw_all, w.before _ s = true := fun w h => hts w (List.mem_cons_of_mem _ h)
  have hown : s.vm.findClass RX1 = some m.cls := findClass_of_methodNamed B.named
  have hlocks := B.notSynchronized
  have hK := hG.K Z
  subst hsz
  have hS : va_S A s.heap s.heap [] := va_S.rf
  have hP : va_P (dC, dI) vwCl [] s.heap := fun k q h => by simp at h
  have hD : va_D A [] := ⟨fun i j p q h => by simp at h, fun k q h => by simp at h⟩
  have hl := lv_entry ([.ref (xa 0), .ref ma]) (n := 5) (Nat.le_of_ble_eq_true rfl)
  rw [show entryFrame m args 5 = entryFrame m ([.ref (xa 0), .ref ma] : List Value).toArray 5 from by rw [hav], lg_entry_eq]
  generalize (lg_sl ([.ref (xa 0), .ref ma]) ++ List.replicate (5 - (lg_sl ([.ref (xa 0), .ref ma])).length) Slot.unset).toArray = ls at hl ⊢
  have hl : lv_has ls 5 [(0, .ref (xa 0)), (1, .ref ma)] := hl
  generalize hQe : vx_MQ below _ _ _ s _ _ _ = Q
  change W p l e ({ frames := 7, cells := 2, slots := 12, locals := 420 } : Room) s m args below meth c s.heap [] 0 0 Q (F0 m 0 ls [])
  have hn := hAG.1
  have h5 := pow5 hn
  have hR2 := hAG.2.1
  refine lv_aload_n hx hb dX1_weight_0 rfl (lv_at hl 0 rfl) ?_
  refine s_i (va_runV (As := []) (rest := []) ⟨hx, hb, hml, hown, hts⟩ (x1_isConformal Z Y xa tl ec ep ga sg p0 q0 r0 hn) (cwV 0 hts (lw_V q1132 q1134 qs12 q96 q1135) rfl rfl rfl (by decide +kernel) ⟨Nat.le_of_ble_eq_true rfl, Nat.le_of_ble_eq_true rfl⟩) (gP_V (va_recv hK (hR0.up hS) (ci := 3) (q0 := 0) rfl rfl) hG hS (fun q _ h => h.elim) (va_P.app ((hR0.up hS).sub (ws' := [((xa 0), .inr (3, xFs xa tl ec ep)), ((xa 3), .inr (4, [.ref ga, .ref (xa 7)]))]) [0, 1] rfl) ((hR2.up hS).sub (ws' := [(ga, .inr (1, [.int (nI p0), .int (nI q0), .int (nI r0), .int (nI (p0 + q0 + r0)), .int (nI (2 ^ (p0 + q0 + r0) - 1)), .ref sg]))]) [0] rfl))) rfl rfl hl.1 rfl (lv_room (Nat.le_of_ble_eq_true rfl)) dX1_weight_1 ⟨by first | decide | omega | (show _ ≤ (2 : Nat); omega), by first | decide | omega | (show _ ≤ (12 : Nat); omega)⟩) ?_
  refine lv_if_eq (tgt := 18) hx hb dX1_weight_4 (by decide) (fun c_4 => ?_) (fun c_4 => ?_)
  · have hbad : (cfB p0 q0 r0 && vecB M) = false := by rw [bI_0 c_4, Bool.false_and]
    refine lv_iconst (v := nI 0) hx hb dX1_weight_18 (by decide) ?_
    have hF9 := va_free (wc := []) hD hS (fun q h => hA q h) [] rfl
    refine x_v (wc := []) (wr := []) (vx_runS (As := [.int (nI 0)]) (rest := []) ⟨hx, hb, hml, hown, hts⟩ (x1_possible Z (va_A [] s.heap.size) s.heap.size (fun q h => Or.inr h) (SS.st Y) (σ 52) (SS.st2 Y) false) (va_cwS 1 hts (lw_S q891 q776 q96 q777) rfl rfl rfl (by decide +kernel) ⟨Nat.le_of_ble_eq_true rfl, Nat.le_of_ble_eq_true rfl⟩) (gP_S hG hS (fun q _ h => hF9 q h) rfl) rfl rfl hl.1 rfl (lv_room (Nat.le_of_ble_eq_true rfl)) dX1_weight_19 ⟨by first | decide | omega | (show _ ≤ (2 : Nat); omega), by first | decide | omega | (show _ ≤ (12 : Nat); omega)⟩) hP hD hS hA [] [] rfl rfl (by decide) (by decide) (fun E ce q9 u9 t9 H locs ht9 hp9 hb9 hz hP hS h1 h2 h3 => ?_) (fun u9 H locs hq hX hz hk hP hD hS => ?_)
    · have hD := hD.sub (ws' := []) [] (by decide) rfl
      have hP : va_P (dC, dI) vwCl [] H := hP
      have hD : va_D A [] := hD
      subst hb9
      subst hQe
      exact vx_out (fun x h => (hnoH x h).elim) hlocks h1 h2 h3 (fun t10 e10 _ => ⟨(), wsb_a hbad, rfl, hS.F e10⟩) hS.2.2 (by first | decide | omega) (by first | decide | omega)
    exact absurd hq (by decide)
  · have hcf := bI_1 c_4
    have hcp := cf_p hcf
    refine lv_aload_n hx hb dX1_weight_7 rfl (lv_at hl 1 rfl) ?_
    obtain ⟨gr, Yg⟩ : ∃ g, SG (dC, dI) dA g s0 := ⟨_, SS.gr Y⟩
    refine s_i (va_runV (As := []) (rest := []) ⟨hx, hb, hml, hown, hts⟩ (x6_isVector Z gr Yg ma mr M) (cwV 0 hts (lw_V q915 q916 q917 q102 q918) rfl rfl rfl (by decide +kernel) ⟨Nat.le_of_ble_eq_true rfl, Nat.le_of_ble_eq_true rfl⟩) (gP_V (va_recv hK (hR1.up hS) (ci := 0) (q0 := 0) rfl rfl) hG hS (fun q _ h => h.elim) ((hR1.up hS).sub (ws' := [(ma, .inr (0, [.ref mr, .long (M 0)])), (mr, .inl (dA 1, 32, .inr (.inl (fun j => M (j + 1)))))]) [0, 1] rfl)) rfl rfl hl.1 rfl (lv_room (Nat.le_of_ble_eq_true rfl)) dX1_weight_8 ⟨by first | decide | omega | (show _ ≤ (2 : Nat); omega), by first | decide | omega | (show _ ≤ (12 : Nat); omega)⟩) ?_
    refine lv_if_eq (tgt := 18) hx hb dX1_weight_11 (by decide) (fun c_11 => ?_) (fun c_11 => ?_)
    · have hbad : (cfB p0 q0 r0 && vecB M) = false := by rw [show vecB M = false from bI_0 c_11, Bool.and_false]
      refine lv_iconst (v := nI 0) hx hb dX1_weight_18 (by decide) ?_
      have hF9 := va_free (wc := []) hD hS (fun q h => hA q h) [] rfl
      refine x_v (wc := []) (wr := []) (vx_runS (As := [.int (nI 0)]) (rest := []) ⟨hx, hb, hml, hown, hts⟩ (x1_possible Z (va_A [] s.heap.size) s.heap.size (fun q h => Or.inr h) (SS.st Y) (σ 52) (SS.st2 Y) false) (va_cwS 1 hts (lw_S q891 q776 q96 q777) rfl rfl rfl (by decide +kernel) ⟨Nat.le_of_ble_eq_true rfl, Nat.le_of_ble_eq_true rfl⟩) (gP_S hG hS (fun q _ h => hF9 q h) rfl) rfl rfl hl.1 rfl (lv_room (Nat.le_of_ble_eq_true rfl)) dX1_weight_19 ⟨by first | decide | omega | (show _ ≤ (2 : Nat); omega), by first | decide | omega | (show _ ≤ (12 : Nat); omega)⟩) hP hD hS hA [] [] rfl rfl (by decide) (by decide) (fun E ce q9 u9 t9 H locs ht9 hp9 hb9 hz hP hS h1 h2 h3 => ?_) (fun u9 H locs hq hX hz hk hP hD hS => ?_)
      · have hD := hD.sub (ws' := []) [] (by decide) rfl
        have hP : va_P (dC, dI) vwCl [] H := hP
        have hD : va_D A [] := hD
        subst hb9
        subst hQe
        exact vx_out (fun x h => (hnoH x h).elim) hlocks h1 h2 h3 (fun t10 e10 _ => ⟨(), wsb_a hbad, rfl, hS.F e10⟩) hS.2.2 (by first | decide | omega) (by first | decide | omega)
      exact absurd hq (by decide)
    · have hvc : vecB M = true := bI_1 c_11
      have h2p := (pow5 (show p0 ≤ 5 by omega)).1
      have h2q := (pow5 (show p0 - 1 ≤ 5 by omega)).1
      have e1p : p0 - 1 + 1 = p0 := by omega
      have h2r := p5 (show p0 < 5 by omega)
      have h2s := p5 (show p0 - 1 < 5 by omega)
      refine lv_iconst (v := nI 1) hx hb dX1_weight_14 (by decide) ?_
      refine lv_goto (tgt := 19) hx hb dX1_weight_15 (by decide) ?_
      have hF9 := va_free (wc := []) hD hS (fun q h => hA q h) [] rfl
      refine x_v (wc := []) (wr := []) (vx_runS (As := [.int (nI 1)]) (rest := []) ⟨hx, hb, hml, hown, hts⟩ (x1_possible Z (va_A [] s.heap.size) s.heap.size (fun q h => Or.inr h) (SS.st Y) (σ 52) (SS.st2 Y) true) (va_cwS 1 hts (lw_S q891 q776 q96 q777) rfl rfl rfl (by decide +kernel) ⟨Nat.le_of_ble_eq_true rfl, Nat.le_of_ble_eq_true rfl⟩) (gP_S hG hS (fun q _ h => hF9 q h) rfl) rfl rfl hl.1 rfl (lv_room (Nat.le_of_ble_eq_true rfl)) dX1_weight_19 ⟨by first | decide | omega | (show _ ≤ (2 : Nat); omega), by first | decide | omega | (show _ ≤ (12 : Nat); omega)⟩) hP hD hS hA [] [] rfl rfl (by decide) (by decide) (fun E ce q9 u9 t9 H locs ht9 hp9 hb9 hz hP hS h1 h2 h3 => ?_) (fun u9 H locs hq hX hz hk hP hD hS => ?_)
      · have hD := hD.sub (ws' := []) [] (by decide) rfl
        have hP : va_P (dC, dI) vwCl [] H := hP
        have hD : va_D A [] := hD
        exact absurd hp9 (by decide)
      have hg19 : true = true := hq
      clear hq
      have hP : va_P (dC, dI) vwCl [] H := hP
      have hD : va_D A [] := hD
      refine lv_aload_n hx hb dX1_weight_22 rfl (lv_at hl 0 rfl) ?_
      refine s_i (va_runV (As := []) (rest := []) ⟨hx, hb, hml, hown, hts⟩ (x1_dimensions Z Y xa tl ec ep ga sg p0 q0 r0 (by omega)) (cwV 0 hts (lw_V q1138 q1140 qs13 q96 q1141) rfl rfl rfl (by decide +kernel) ⟨Nat.le_of_ble_eq_true rfl, Nat.le_of_ble_eq_true rfl⟩) (gP_V (va_recv hK (hR0.up hS) (ci := 3) (q0 := 0) rfl rfl) hG hS (fun q _ h => h.elim) (va_P.app ((hR0.up hS).sub (ws' := [((xa 0), .inr (3, xFs xa tl ec ep)), ((xa 3), .inr (4, [.ref ga, .ref (xa 7)]))]) [0, 1] rfl) ((hR2.up hS).sub (ws' := [(ga, .inr (1, [.int (nI p0), .int (nI q0), .int (nI r0), .int (nI (p0 + q0 + r0)), .int (nI (2 ^ (p0 + q0 + r0) - 1)), .ref sg]))]) [0] rfl))) rfl rfl hl.1 rfl (lv_room (Nat.le_of_ble_eq_true rfl)) dX1_weight_23 ⟨by first | decide | omega | (show _ ≤ (2 : Nat); omega), by first | decide | omega | (show _ ≤ (12 : Nat); omega)⟩) ?_
      refine lv_istore_n (lv' := [(2, .int (nI (p0 - 1))), (0, .ref (xa 0)), (1, .ref ma)]) hx hb dX1_weight_26 rfl hl (by decide) rfl (fun ls hl => ?_)
      refine lv_aload_n hx hb dX1_weight_27 rfl (lv_at hl 2 rfl) ?_
      refine va_getN (D := (dC, dI)) (ci := 0) (v := .ref mr) (C := RX6) (T := TX6) (N := 2) hx hb hts in_X6 hown hK (hR1.up hS) 0 rfl rfl 0 (by decide) (((va_Nw.warmF hG.1 (va_Nw.of rfl (Z.2.1 _ q552)))).use rfl) (fun _ h9 => h9) rfl dX1_weight_28 ?_
      refine lv_iconst (v := nI 1) hx hb dX1_weight_31 (by decide) ?_
      refine lv_iload_n hx hb dX1_weight_32 rfl (lv_at hl 0 rfl) ?_
      refine lv_iconst (v := nI 1) hx hb dX1_weight_33 (by decide) ?_
      refine lv_iadd hx hb dX1_weight_34 ?_
      refine e_i (y := nI (p0 - 1 + 1)) (nI_add _ _) ?_
      refine e_i (y := nI p0) (n_eq e1p) ?_
      refine lv_ishl hx hb dX1_weight_35 ?_
      refine e_i (y := nI (2 ^ p0)) (n_shl1 (by omega)) ?_
      refine a_lald hx hb hK (hR1.up hS) 1 1 rfl rfl (by omega) (by omega) dX1_weight_36 ?_
      refine lv_aload_n hx hb dX1_weight_37 rfl (lv_at hl 2 rfl) ?_
      refine va_getN (D := (dC, dI)) (ci := 0) (v := .ref mr) (C := RX6) (T := TX6) (N := 2) hx hb hts in_X6 hown hK (hR1.up hS) 0 rfl rfl 0 (by decide) (((va_Nw.warmF hG.1 (va_Nw.of rfl (Z.2.1 _ q552)))).use rfl) (fun _ h9 => h9) rfl dX1_weight_38 ?_
      refine lv_iconst (v := nI 1) hx hb dX1_weight_41 (by decide) ?_
      refine lv_iload_n hx hb dX1_weight_42 rfl (lv_at hl 0 rfl) ?_
      refine lv_ishl hx hb dX1_weight_43 ?_
      refine e_i (y := nI (2 ^ (p0 - 1))) (n_shl1 (by omega)) ?_
      refine a_lald hx hb hK (hR1.up hS) 1 1 rfl rfl (by omega) (by omega) dX1_weight_44 ?_
      refine lv_lsub hx hb dX1_weight_45 ?_
      refine e_l (y := twW p0 M) (rfl) ?_
      refine lv_lstore_n (lv' := [(3, .long (twW p0 M)), (2, .int (nI (p0 - 1))), (0, .ref (xa 0)), (1, .ref ma)]) hx hb dX1_weight_46 rfl hl (by decide) rfl (fun ls hl => ?_)
      refine lv_lload_n hx hb dX1_weight_47 rfl (lv_at hl 0 rfl) ?_
      refine lv_lconst (v := 0) hx hb dX1_weight_48 rfl ?_
      refine W.lcmp hx hb dX1_weight_49 ?_
      refine lv_if_eq (tgt := 57) hx hb dX1_weight_50 (by decide) (fun c_50 => ?_) (fun c_50 => ?_)
      · have c_50 : (twW p0 M) = 0 := (lg_cmp_eq _ _).mp c_50
        have htz := c_50
        refine lv_iconst (v := nI 0) hx hb dX1_weight_57 (by decide) ?_
        have hF9 := va_free (wc := []) hD hS (fun q h => hA q h) [] rfl
        refine x_v (wc := []) (wr := []) (vx_runS (As := [.int (nI 0)]) (rest := []) ⟨hx, hb, hml, hown, hts⟩ (x1_possible Z (va_A [] H.size) H.size (fun q h => Or.inr h) (SS.st Y) (σ 52) (SS.st2 Y) false) (va_cwS 1 hts (lw_S q891 q776 q96 q777) rfl rfl rfl (by decide +kernel) ⟨Nat.le_of_ble_eq_true rfl, Nat.le_of_ble_eq_true rfl⟩) (gP_S hG hS (fun q _ h => hF9 q h) rfl) rfl rfl hl.1 rfl (lv_room (Nat.le_of_ble_eq_true rfl)) dX1_weight_58 ⟨by first | decide | omega | (show _ ≤ (2 : Nat); omega), by first | decide | omega | (show _ ≤ (12 : Nat); omega)⟩) hP hD hS hA [] [] rfl rfl (by decide) (by decide) (fun E ce q9 u9 t9 H locs ht9 hp9 hb9 hz hP hS h1 h2 h3 => ?_) (fun u9 H locs hq hX hz hk hP hD hS => ?_)
        · have hD := hD.sub (ws' := []) [] (by decide) rfl
          have hP : va_P (dC, dI) vwCl [] H := hP
          have hD : va_D A [] := hD
          subst hb9
          subst hQe
          exact vx_out (fun x h => (hnoH x h).elim) hlocks h1 h2 h3 (fun t10 e10 _ => ⟨(), wsb_z htz, rfl, hS.F e10⟩) hS.2.2 (by first | decide | omega) (by first | decide | omega)
        exact absurd hq (by decide)
      · have c_50 : ¬ (twW p0 M) = 0 := fun h => c_50 ((lg_cmp_eq _ _).mpr h)
        have htz := c_50
        refine lv_iconst (v := nI 1) hx hb dX1_weight_53 (by decide) ?_
        refine lv_goto (tgt := 58) hx hb dX1_weight_54 (by decide) ?_
        have hF9 := va_free (wc := []) hD hS (fun q h => hA q h) [] rfl
        refine x_v (wc := []) (wr := []) (vx_runS (As := [.int (nI 1)]) (rest := []) ⟨hx, hb, hml, hown, hts⟩ (x1_possible Z (va_A [] H.size) H.size (fun q h => Or.inr h) (SS.st Y) (σ 52) (SS.st2 Y) true) (va_cwS 1 hts (lw_S q891 q776 q96 q777) rfl rfl rfl (by decide +kernel) ⟨Nat.le_of_ble_eq_true rfl, Nat.le_of_ble_eq_true rfl⟩) (gP_S hG hS (fun q _ h => hF9 q h) rfl) rfl rfl hl.1 rfl (lv_room (Nat.le_of_ble_eq_true rfl)) dX1_weight_58 ⟨by first | decide | omega | (show _ ≤ (2 : Nat); omega), by first | decide | omega | (show _ ≤ (12 : Nat); omega)⟩) hP hD hS hA [] [] rfl rfl (by decide) (by decide) (fun E ce q9 u9 t9 H locs ht9 hp9 hb9 hz hP hS h1 h2 h3 => ?_) (fun u9 H locs hq hX hz hk hP hD hS => ?_)
        · have hD := hD.sub (ws' := []) [] (by decide) rfl
          have hP : va_P (dC, dI) vwCl [] H := hP
          have hD : va_D A [] := hD
          exact absurd hp9 (by decide)
        have hg58 : true = true := hq
        clear hq
        have hP : va_P (dC, dI) vwCl [] H := hP
        have hD : va_D A [] := hD
        refine lv_lload_n hx hb dX1_weight_61 rfl (lv_at hl 0 rfl) ?_
        subst hQe
        refine vx_ret ?_
        refine W.widen (k := 2) (n := 12) (by first | decide | omega) (by first | decide | omega) ?_
        exact W.lret (v := twW p0 M) hx hb hr (fun tz ht hW => ⟨⟨_, (), rfl, ⟨wsb_t hcf hvc htz, rfl⟩, B1_at ht (hP.sub [] rfl) (hD.sub [] (by decide) rfl) trivial⟩, hS.F ht⟩) hS.2.2 dX1_weight_62
set_option maxHeartbeats 4000000 in
theorem x1_center {l : Launch} {dC : Nat → ClassId} {dI : Nat → Nat → Nat} {dA : Nat → ClassId} {s0 : State} {b0 : Addr} (Z : Z0 l dC dI dA s0 b0) (A : Nat → Prop) (sz : Nat) (hA : ∀ q : Nat, sz ≤ q → A q) {σ : Nat → Nat} (Y : SS (dC, dI) dA σ s0) (xa : Nat → Nat) (tl : Nat) (ec ep : Int32) (ga sg : Nat) (sr : Nat → Nat) (p0 q0 r0 : Nat) (rm rr : Nat → Nat) (Ms : Nat → MV) (t a : Int32) (sR : ∀ k, k < 8 → MSm (Ms k)) (pR : ∀ k, k < 8 → MSp (2 ^ (p0 + q0 + r0)) (Ms k)) (hAf : ∀ q, A q → q = xa 7 ∨ sz ≤ q) : vx_Met l yX1_center (wsW_ yX1_center cX1_center 8 (some .int) [((68 : Nat), (80 : Nat), (81 : Nat), (179 : Nat))]) ({ frames := 9, cells := 12, slots := 120, locals := 540 } : Room) (gP [.ref (xa 0), .int t, .int a] s0 A (fun H => H.size = sz ∧ va_P (dC, dI) vwCl [((xa 7), .inl (dA 4, 8, .inr (.inr (.inr (.inr (fun k => some (rm k)))))))] H ∧ va_D A [((xa 7), .inl (dA 4, 8, .inr (.inr (.inr (.inr (fun k => some (rm k)))))))] ∧ RO A (dC, dI) [((xa 0), .inr (3, xFs xa tl ec ep)), ((xa 3), .inr (4, [.ref ga, .ref (xa 7)]))] H ∧ AG A (dC, dI) dA ga sg sr p0 q0 r0 H ∧ RG A (dC, dI) dA rm rr Ms H)) (va_Qi (S := Nat × Nat × MV) (fun r9 u => ceX p0 q0 r0 Ms t a = (nI 0, some u.2.2) ∧ r9 = nI (trmS u.2.2)) (B1 (dC, dI) A (fun u => [(xa 7, .inl (dA 4, 8, .inr (.inr (.inr (.inr (va_up (fun k => some (rm k)) (rg t) (some u.1)))))))]) (fun u H => NM (dC, dI) dA σ rm rr Ms sz u H)) A) (vx_X (S := Unit) (fun _ => True) (fun _ E _ t9 => ((E = "java/lang/IndexOutOfBoundsException" ∧ ceX p0 q0 r0 Ms t a = (nI 1, none)) ∨ (E = "java/lang/IllegalStateException" ∧ ceX p0 q0 r0 Ms t a = (nI 2, none)) ∨ (E = "java/lang/ArithmeticException" ∧ ceX p0 q0 r0 Ms t a = (nI 3, none))) ∧ va_P (dC, dI) vwCl [((xa 7), .inl (dA 4, 8, .inr (.inr (.inr (.inr (fun k => some (rm k)))))))] t9.heap) A) 12 120 A := by
  refine vx_ofWH (cc := cX1_center) (maxL := 8) (ret := (some .int)) (by decide) rfl ?_
  intro p e s m args below meth c s₁ B hml hv
  obtain ⟨hav, hG, hsz, hP, hD, hR0, hAG, hRG⟩ := hv
  have hx := B.exec
  have hb := B.bytes
  have hr := B.returns
  have hts := atoms_spec (ws := (wsW_ yX1_center cX1_center 8 (some .int) [((68 : Nat), (80 : Nat), (81 : Nat), (179 : Nat))])) B.pre
  have hxt : c.exceptionTable.toList = [⟨68, 80, 81, 179⟩] := vx_table (x := yX1_center) (y := yX1_center) B (hts _ List.mem_cons_self)
  have hts : ∀ w ∈ lw_all, w.before _ s = true := fun w h => hts w (List.mem_cons_of_mem _ h)
  have hown : s.vm.findClass RX1 = some m.cls := findClass_of_methodNamed B.named
  have hlocks := B.notSynchronized
  have hK := hG.K Z
  subst hsz
  have hS : va_S A s.heap s.heap [] := va_S.rf
  have hl := lv_entry ([.ref (xa 0), .int t, .int a]) (n := 8) (Nat.le_of_ble_eq_true rfl)
  rw [show entryFrame m args 8 = entryFrame m ([.ref (xa 0), .int t, .int a] : List Value).toArray 8 from by rw [hav], lg_entry_eq]
  generalize (lg_sl ([.ref (xa 0), .int t, .int a]) ++ List.replicate (8 - (lg_sl ([.ref (xa 0), .int t, .int a])).length) Slot.unset).toArray = ls at hl ⊢
  have hl : lv_has ls 8 [(0, .ref (xa 0)), (1, .int t), (2, .int a)] := hl
  generalize hQe : vx_MQ below _ _ _ s _ _ _ = Q
  change W p l e ({ frames := 9, cells := 12, slots := 120, locals := 540 } : Room) s m args below meth c s.heap [] 0 0 Q (F0 m 0 ls [])
  have hn := hAG.1
  have h5 := pow5 hn
  have hR1 := hAG.2.1
  refine lv_iconst (v := nI 2) hx hb dX1_center_0 (by decide) ?_
  refine a_newa (D := (dC, dI)) (atype := .int) (N' := 2) (a0 := (2, .inl (fun _ => 0))) hx hb (hts _ q230) rfl hK hP hD hS hA 0 rfl (fun _ => ra_int) (fun _ => rfl) (by decide) (by decide) (by decide) (by first | decide | omega) (by first | decide | omega) dX1_center_1 (fun na_1 H locs hP hD hS => ?_)
  have hP : va_P (dC, dI) vwCl [((xa 7), .inl (dA 4, 8, .inr (.inr (.inr (.inr (fun k => some (rm k))))))), (na_1, .inl (dA 0, 2, .inl (fun _ => 0)))] H := hP
  have hD : va_D A [((xa 7), .inl (dA 4, 8, .inr (.inr (.inr (.inr (fun k => some (rm k))))))), (na_1, .inl (dA 0, 2, .inl (fun _ => 0)))] := hD
  refine lv_dup hx hb dX1_center_3 rfl ?_
  refine lv_iconst (v := nI 0) hx hb dX1_center_4 (by decide) ?_
  refine lv_iload_n hx hb dX1_center_5 rfl (lv_at hl 1 rfl) ?_
  refine a_iast hx hb hK hP hD hS 1 0 rfl rfl (by omega) (by omega) dX1_center_6 (fun H locs hP hD hS => ?_)
  have hP : va_P (dC, dI) vwCl [((xa 7), .inl (dA 4, 8, .inr (.inr (.inr (.inr (fun k => some (rm k))))))), (na_1, .inl (dA 0, 2, .inl (upd (fun _ => 0) 0 t)))] H := hP
  have hD : va_D A [((xa 7), .inl (dA 4, 8, .inr (.inr (.inr (.inr (fun k => some (rm k))))))), (na_1, .inl (dA 0, 2, .inl (upd (fun _ => 0) 0 t)))] := hD
  refine lv_dup hx hb dX1_center_7 rfl ?_
  refine lv_iconst (v := nI 1) hx hb dX1_center_8 (by decide) ?_
  refine lv_iload_n hx hb dX1_center_9 rfl (lv_at hl 2 rfl) ?_
  refine a_iast hx hb hK hP hD hS 1 0 rfl rfl (by omega) (by omega) dX1_center_10 (fun H locs hP hD hS => ?_)
  have hP : va_P (dC, dI) vwCl [((xa 7), .inl (dA 4, 8, .inr (.inr (.inr (.inr (fun k => some (rm k))))))), (na_1, .inl (dA 0, 2, .inl (upd (upd (fun _ => 0) 0 t) 1 a)))] H := hP
  have hD : va_D A [((xa 7), .inl (dA 4, 8, .inr (.inr (.inr (.inr (fun k => some (rm k))))))), (na_1, .inl (dA 0, 2, .inl (upd (upd (fun _ => 0) 0 t) 1 a)))] := hD
  have hF9 := va_free (wc := []) hD hS (fun q h => hA q h) [] rfl
  refine x_v (wc := []) (wr := [((xa 7), .inl (dA 4, 8, .inr (.inr (.inr (.inr (fun k => some (rm k))))))), (na_1, .inl (dA 0, 2, .inl (upd (upd (fun _ => 0) 0 t) 1 a)))]) (vx_runS (As := [.ref na_1]) (rest := []) ⟨hx, hb, hml, hown, hts⟩ (x1_registers Z (va_A [] H.size) H.size (fun q h => Or.inr h) Y na_1 2 (upd (upd (fun _ => 0) 0 t) 1 a) (by decide)) (va_cwS 1 hts (lw_S q469 q470 q96 q471) rfl rfl rfl (by decide +kernel) ⟨Nat.le_of_ble_eq_true rfl, Nat.le_of_ble_eq_true rfl⟩) (gP_S hG hS (fun q _ h => hF9 q h) ⟨rfl, (RO.beside (wr := [(na_1, .inl (dA 0, 2, .inl (upd (upd (fun _ => 0) 0 t) 1 a)))]) hP hD [] [1] rfl rfl (by decide))⟩) rfl rfl hl.1 rfl (lv_room (Nat.le_of_ble_eq_true rfl)) dX1_center_11 ⟨by first | decide | omega | (show _ ≤ (12 : Nat); omega), by first | decide | omega | (show _ ≤ (120 : Nat); omega)⟩) hP hD hS hA [] [0, 1] rfl rfl (by decide) (by decide) (fun E ce q9 u9 t9 H locs ht9 hp9 hb9 hz hP hS h1 h2 h3 => ?_) (fun u9 H locs hq hX hz hk hP hD hS => ?_)
  · have hD := hD.sub (ws' := [((xa 7), .inl (dA 4, 8, .inr (.inr (.inr (.inr (fun k => some (rm k))))))), (na_1, .inl (dA 0, 2, .inl (upd (upd (fun _ => 0) 0 t) 1 a)))]) [0, 1] (by decide) rfl
    have hP : va_P (dC, dI) vwCl [((xa 7), .inl (dA 4, 8, .inr (.inr (.inr (.inr (fun k => some (rm k))))))), (na_1, .inl (dA 0, 2, .inl (upd (upd (fun _ => 0) 0 t) 1 a)))] H := hP
    have hD : va_D A [((xa 7), .inl (dA 4, 8, .inr (.inr (.inr (.inr (fun k => some (rm k))))))), (na_1, .inl (dA 0, 2, .inl (upd (upd (fun _ => 0) 0 t) 1 a)))] := hD
    subst hb9
    subst hQe
    exact vx_outP hown hlocks (by rw [hxt]; exact (List.forall_mem_cons.mpr ⟨Or.inl (by decide), (fun _ h => nomatch h)⟩)) h1 h2 h3 (fun t10 e10 _ => ⟨(), trivial, (⟨Or.inl (⟨rfl, cen_1 (rgs2.symm.trans hp9)⟩), by rw [e10]; exact hP.sub (ws' := [((xa 7), .inl (dA 4, 8, .inr (.inr (.inr (.inr (fun k => some (rm k)))))))]) [0] rfl⟩ : (_ ∧ _)), hS.F e10⟩) hS.2.2 (by first | decide | omega) (by first | decide | omega)
  have hrg : (rgB t && rgB a) = true := rgs2.symm.trans hq
  clear hq
  have hP : va_P (dC, dI) vwCl [((xa 7), .inl (dA 4, 8, .inr (.inr (.inr (.inr (fun k => some (rm k))))))), (na_1, .inl (dA 0, 2, .inl (upd (upd (fun _ => 0) 0 t) 1 a)))] H := hP
  have hD : va_D A [((xa 7), .inl (dA 4, 8, .inr (.inr (.inr (.inr (fun k => some (rm k))))))), (na_1, .inl (dA 0, 2, .inl (upd (upd (fun _ => 0) 0 t) 1 a)))] := hD
  have hP0 := hP.sub (ws' := [((xa 7), .inl (dA 4, 8, .inr (.inr (.inr (.inr (fun k => some (rm k)))))))]) [0] rfl
  have hD0 := hD.sub (ws' := [((xa 7), .inl (dA 4, 8, .inr (.inr (.inr (.inr (fun k => some (rm k)))))))]) [0] (by decide) rfl
  have h8jt := inB_nat (by decide) (show inB t (nI 0) (nI 7) = true from (Bool.and_eq_true_iff.mp hrg).1)
  have h8ja := inB_nat (by decide) (show inB a (nI 0) (nI 7) = true from (Bool.and_eq_true_iff.mp hrg).2)
  obtain ⟨jt, h9jt, e8jt⟩ := h8jt
  obtain ⟨ja, h9ja, e8ja⟩ := h8ja
  have h7jt : jt < 8 := by omega
  subst e8jt
  have h7ja : ja < 8 := by omega
  subst e8ja
  have hP := hP0
  have hD := hD0
  refine lv_aload_n hx hb dX1_center_14 rfl (lv_at hl 0 rfl) ?_
  refine va_get (D := (dC, dI)) (ci := 3) (v := .ref (xa 3)) (C := RX1) (T := TX1) (N := 9) hx hb hts in_X1 hown hK (hR0.up hS) 0 rfl rfl 2 (by decide) (hts _ q286) (fun _ h9 => h9) rfl dX1_center_15 ?_
  refine va_getN (D := (dC, dI)) (ci := 4) (v := .ref (xa 7)) (C := RX4) (T := TX4) (N := 2) hx hb hts in_X4 hown hK (hR0.up hS) 1 rfl rfl 1 (by decide) (((va_Nw.warmF hG.1 (va_Nw.of rfl (Z.2.1 _ q243)))).use rfl) (fun _ h9 => h9) rfl dX1_center_18 ?_
  refine lv_iload_n hx hb dX1_center_21 rfl (lv_at hl 2 rfl) ?_
  refine a_aldq hx hb hK hP 0 4 rfl rfl (by omega) (by decide) dX1_center_22 ?_
  refine e_v (y := .ref (rm ja)) (rfl) ?_
  have hR2 := hRG ja (by omega)
  refine lv_astore_n (lv' := [(3, .ref (rm ja)), (0, .ref (xa 0)), (1, .int (nI jt)), (2, .int (nI ja))]) hx hb dX1_center_23 rfl hl (by decide) rfl (fun ls hl => ?_)
  refine lv_aload_n hx hb dX1_center_24 rfl (lv_at hl 1 rfl) ?_
  refine lv_aload_n hx hb dX1_center_25 rfl (lv_at hl 0 rfl) ?_
  have hF9 := va_free (wc := []) hD hS (fun q h => hA q h) [] rfl
  refine x_l (wc := []) (wr := [((xa 7), .inl (dA 4, 8, .inr (.inr (.inr (.inr (fun k => some (rm k)))))))]) (vx_runV (As := [.ref (rm ja)]) (rest := []) ⟨hx, hb, hml, hown, hts⟩ (x1_weight Z (va_A [] H.size) H.size (fun q h => Or.inr h) Y xa tl ec ep ga sg sr p0 q0 r0 0 (rm ja) (rr ja) (Ms ja) (sR ja (by omega))) (cwV 1 hts (lw_V q1149 q1151 qs14 q96 q1152) rfl rfl rfl (by decide +kernel) ⟨Nat.le_of_ble_eq_true rfl, Nat.le_of_ble_eq_true rfl⟩) (gP_V (va_recv hK (hR0.up hS) (ci := 3) (q0 := 0) rfl rfl) hG hS (fun q _ h => hF9 q h) ⟨rfl, (hR0.to hS (fun q _ h => hF9 q h)), (hR2.to hS (fun q _ h => hF9 q h)), (hAG.to hS (fun q _ h => hF9 q h))⟩) rfl rfl hl.1 rfl (lv_room (Nat.le_of_ble_eq_true rfl)) dX1_center_26 ⟨by first | decide | omega | (show _ ≤ (12 : Nat); omega), by first | decide | omega | (show _ ≤ (120 : Nat); omega)⟩) hP hD hS hA [] [0] rfl rfl (by decide) (by decide) (fun E ce q9 u9 t9 H locs ht9 hp9 hb9 hz hP hS h1 h2 h3 => ?_) (fun r9 u9 H locs hq hX hz hk hP hD hS => ?_)
  · have hD := hD.sub (ws' := [((xa 7), .inl (dA 4, 8, .inr (.inr (.inr (.inr (fun k => some (rm k)))))))]) [0] (by decide) rfl
    have hP : va_P (dC, dI) vwCl [((xa 7), .inl (dA 4, 8, .inr (.inr (.inr (.inr (fun k => some (rm k)))))))] H := hP
    have hD : va_D A [((xa 7), .inl (dA 4, 8, .inr (.inr (.inr (.inr (fun k => some (rm k)))))))] := hD
    subst hb9
    subst hQe
    exact vx_outP hown hlocks (by rw [hxt]; exact (List.forall_mem_cons.mpr ⟨Or.inl (by decide), (fun _ h => nomatch h)⟩)) h1 h2 h3 (fun t10 e10 _ => ⟨(), trivial, (⟨Or.inr (Or.inl (⟨rfl, cen_2 h7jt h7ja hp9⟩)), by rw [e10]; exact hP.sub (ws' := [((xa 7), .inl (dA 4, 8, .inr (.inr (.inr (.inr (fun k => some (rm k)))))))]) [0] rfl⟩ : (_ ∧ _)), hS.F e10⟩) hS.2.2 (by first | decide | omega) (by first | decide | omega)
  obtain ⟨hws, hr9⟩ := hq
  obtain ⟨r_2, rfl⟩ : ∃ z, z = r9 := ⟨_, rfl⟩
  subst hr9
  have hP : va_P (dC, dI) vwCl [((xa 7), .inl (dA 4, 8, .inr (.inr (.inr (.inr (fun k => some (rm k)))))))] H := hP
  have hD : va_D A [((xa 7), .inl (dA 4, 8, .inr (.inr (.inr (.inr (fun k => some (rm k)))))))] := hD
  refine lv_lstore (lv' := [(4, .long (twW p0 (Ms ja))), (3, .ref (rm ja)), (0, .ref (xa 0)), (1, .int (nI jt)), (2, .int (nI ja))]) hx hb dX1_center_29 hl (by decide) rfl (fun ls hl => ?_)
  obtain ⟨hcf, hvc, htz⟩ := wsb_of hws
  have hcp := cf_p hcf
  have hct := twW_bd (show p0 ≤ 4 by omega) (sR ja (by omega))
  have hcn := ne_min_of (B := 200000000) hct (by decide)
  refine lv_iconst (v := nI 5) hx hb dX1_center_31 (by decide) ?_
  refine a_newa (D := (dC, dI)) (atype := .long) (N' := 5) (a0 := (5, .inr (.inl (fun _ => 0)))) hx hb (hts _ q542) rfl hK hP hD hS hA 1 rfl (fun _ => ra_long) (fun _ => rfl) (by decide) (by decide) (by decide) (by first | decide | omega) (by first | decide | omega) dX1_center_32 (fun na_3 H locs hP hD hS => ?_)
  have hP : va_P (dC, dI) vwCl [((xa 7), .inl (dA 4, 8, .inr (.inr (.inr (.inr (fun k => some (rm k))))))), (na_3, .inl (dA 1, 5, .inr (.inl (fun _ => 0))))] H := hP
  have hD : va_D A [((xa 7), .inl (dA 4, 8, .inr (.inr (.inr (.inr (fun k => some (rm k))))))), (na_3, .inl (dA 1, 5, .inr (.inl (fun _ => 0))))] := hD
  refine lv_astore (lv' := [(6, .ref na_3), (4, .long (twW p0 (Ms ja))), (3, .ref (rm ja)), (0, .ref (xa 0)), (1, .int (nI jt)), (2, .int (nI ja))]) hx hb dX1_center_34 hl (by decide) rfl (fun ls hl => ?_)
  refine lv_iconst (v := nI 0) hx hb dX1_center_36 (by decide) ?_
  refine lv_istore (lv' := [(7, .int (nI 0)), (6, .ref na_3), (4, .long (twW p0 (Ms ja))), (3, .ref (rm ja)), (0, .ref (xa 0)), (1, .int (nI jt)), (2, .int (nI ja))]) hx hb dX1_center_37 hl (by decide) rfl (fun ls hl => ?_)
  have e9 : (fun _ => 0 : Nat → Int64) = (tabS (fun k => Ms ja (2 ^ k + 1)) 0) := (tabS_0 _).symm
  rw [e9] at hP hD; clear e9
  have loop_4 : ∀ (n9_4 : Nat) (kc : Nat) (H : Heap) (locs : List Loc) (ls : Array Slot), 6 - kc < n9_4 → (kc ≤ p0 - 1) → va_P (dC, dI) vwCl [((xa 7), .inl (dA 4, 8, .inr (.inr (.inr (.inr (fun k => some (rm k))))))), (na_3, .inl (dA 1, 5, .inr (.inl (tabS (fun k => Ms ja (2 ^ k + 1)) kc))))] H → va_D A [((xa 7), .inl (dA 4, 8, .inr (.inr (.inr (.inr (fun k => some (rm k))))))), (na_3, .inl (dA 1, 5, .inr (.inl (tabS (fun k => Ms ja (2 ^ k + 1)) kc))))] → va_S A s.heap H locs → lv_has ls 8 [(0, .ref (xa 0)), (1, .int (nI jt)), (2, .int (nI ja)), (3, .ref (rm ja)), (4, .long (twW p0 (Ms ja))), (6, .ref na_3), (7, .int (nI kc))] → W p l e ({ frames := 9, cells := 12, slots := 120, locals := 540 } : Room) s m args below meth c H locs (0 + 1 + 3 + 2 + 1) (0 + 2 + 18 + 12 + 5) Q (F0 m 39 ls []) := by
    intro n9_4
    induction n9_4 with
    | zero => intro kc H locs ls hm_4; exact absurd hm_4 (Nat.not_lt_zero _)
    | succ n9_4 ih_4 =>
      intro kc H locs ls hm_4 hkc hP hD hS hl
      have h2k := (pow5 (show kc ≤ 5 by omega)).1
      refine lv_iload hx hb dX1_center_39 (lv_at hl 6 rfl) ?_
      refine lv_aload_n hx hb dX1_center_41 rfl (lv_at hl 0 rfl) ?_
      refine s_i (va_runV (As := []) (rest := [.int (nI kc)]) ⟨hx, hb, hml, hown, hts⟩ (x1_dimensions Z Y xa tl ec ep ga sg p0 q0 r0 (by omega)) (cwV 0 hts (lw_V q1138 q1140 qs13 q96 q1141) rfl rfl rfl (by decide +kernel) ⟨Nat.le_of_ble_eq_true rfl, Nat.le_of_ble_eq_true rfl⟩) (gP_V (va_recv hK (hR0.up hS) (ci := 3) (q0 := 0) rfl rfl) hG hS (fun q _ h => h.elim) (va_P.app ((hR0.up hS).sub (ws' := [((xa 0), .inr (3, xFs xa tl ec ep)), ((xa 3), .inr (4, [.ref ga, .ref (xa 7)]))]) [0, 1] rfl) ((hR1.up hS).sub (ws' := [(ga, .inr (1, [.int (nI p0), .int (nI q0), .int (nI r0), .int (nI (p0 + q0 + r0)), .int (nI (2 ^ (p0 + q0 + r0) - 1)), .ref sg]))]) [0] rfl))) rfl rfl hl.1 rfl (lv_room (Nat.le_of_ble_eq_true rfl)) dX1_center_42 ⟨by first | decide | omega | (show _ ≤ (12 : Nat); omega), by first | decide | omega | (show _ ≤ (120 : Nat); omega)⟩) ?_
      refine lv_icmp_ge (tgt := 68) hx hb dX1_center_45 (by decide) (fun c_45 => ?_) (fun c_45 => ?_)
      · have c_45 : (p0 - 1) ≤ kc := (nI_leI (a := (p0 - 1)) (b := kc) (by omega) (by omega)).mp c_45
        obtain rfl : kc = p0 - 1 := by omega
        refine lv_aload_n hx hb dX1_center_68 rfl (lv_at hl 0 rfl) ?_
        refine lv_iload_n hx hb dX1_center_69 rfl (lv_at hl 1 rfl) ?_
        refine lv_aload hx hb dX1_center_70 (lv_at hl 5 rfl) ?_
        refine lv_lload hx hb dX1_center_72 (lv_at hl 4 rfl) ?_
        have hF9 := va_free (wc := []) hD hS (fun q h => hA q h) [] rfl
        refine x_r (wc := []) (wr := [((xa 7), .inl (dA 4, 8, .inr (.inr (.inr (.inr (fun k => some (rm k))))))), (na_3, .inl (dA 1, 5, .inr (.inl (tabS (fun k => Ms ja (2 ^ k + 1)) (p0 - 1)))))]) (vx_runS (As := [.ref na_3, .long (twW p0 (Ms ja))]) (rest := [.int (nI jt), .ref (xa 0)]) ⟨hx, hb, hml, hown, hts⟩ (x1_vector Z (va_A [] H.size) H.size (fun q h => Or.inr h) Y na_3 (tabS (fun k => Ms ja (2 ^ k + 1)) (p0 - 1)) (twW p0 (Ms ja)) (aN_nz htz) hcn (fun k hk => tab_nm (fun k hk => ne_min_of ((sR ja (by omega)).c (p5 hk)) (by decide)) hk)) (va_cwS 2 hts (lw_S q900 q901 q96 q902) rfl rfl rfl (by decide +kernel) ⟨Nat.le_of_ble_eq_true rfl, Nat.le_of_ble_eq_true rfl⟩) (gP_S hG hS (fun q _ h => hF9 q h) ⟨rfl, (RO.beside (wr := [(na_3, .inl (dA 1, 5, .inr (.inl (tabS (fun k => Ms ja (2 ^ k + 1)) (p0 - 1)))))]) hP hD [] [1] rfl rfl (by decide))⟩) rfl rfl hl.1 rfl (lv_room (Nat.le_of_ble_eq_true rfl)) dX1_center_74 ⟨by first | decide | omega | (show _ ≤ (12 : Nat); omega), by first | decide | omega | (show _ ≤ (120 : Nat); omega)⟩) hP hD hS hA [] [0, 1] rfl rfl (by decide) (by decide) (fun E ce q9 u9 t9 H locs ht9 hp9 hb9 hz hP hS h1 h2 h3 => ?_) (fun u9 ra9 H locs hq hX hz hk hP hD hS => ?_)
        · have hD := hD.sub (ws' := [((xa 7), .inl (dA 4, 8, .inr (.inr (.inr (.inr (fun k => some (rm k))))))), (na_3, .inl (dA 1, 5, .inr (.inl (tabS (fun k => Ms ja (2 ^ k + 1)) (p0 - 1)))))]) [0, 1] (by decide) rfl
          have hP : va_P (dC, dI) vwCl [((xa 7), .inl (dA 4, 8, .inr (.inr (.inr (.inr (fun k => some (rm k))))))), (na_3, .inl (dA 1, 5, .inr (.inl (tabS (fun k => Ms ja (2 ^ k + 1)) (p0 - 1)))))] H := hP
          have hD : va_D A [((xa 7), .inl (dA 4, 8, .inr (.inr (.inr (.inr (fun k => some (rm k))))))), (na_3, .inl (dA 1, 5, .inr (.inl (tabS (fun k => Ms ja (2 ^ k + 1)) (p0 - 1)))))] := hD
          subst hb9
          refine vx_catch (name := "BladeAlgebra$Unfit") (E := "BladeAlgebra$Unfit") (ce := ce) hown [] ⟨68, 80, 81, 179⟩ [] hxt (fun _ h => nomatch h) (by decide) (by decide) (hts _ q468) (castZ Z hG q523) h1 h2 h3 ?_
          have hpU := hp9
          refine lv_astore (lv' := [(7, .ref q9), (0, .ref (xa 0)), (1, .int (nI jt)), (2, .int (nI ja)), (3, .ref (rm ja)), (4, .long (twW p0 (Ms ja))), (6, .ref na_3)]) hx hb dX1_center_81 hl (by decide) rfl (fun ls hl => ?_)
          have hF9 := va_free (wc := []) hD hS (fun q h => hA q h) [] rfl
          refine c_r (wr := [((xa 7), .inl (dA 4, 8, .inr (.inr (.inr (.inr (fun k => some (rm k))))))), (na_3, .inl (dA 1, 5, .inr (.inl (tabS (fun k => Ms ja (2 ^ k + 1)) (p0 - 1)))))]) (va_runS (As := []) (rest := []) ⟨hx, hb, hml, hown, hts⟩ (x1_large Z (va_A [] H.size) H.size (fun q h => Or.inr h) Y) (va_cwS 0 hts (lw_S q562 q563 q96 q564) rfl rfl rfl (by decide +kernel) ⟨Nat.le_of_ble_eq_true rfl, Nat.le_of_ble_eq_true rfl⟩) (gP_S hG hS (fun q _ h => hF9 q h) rfl) rfl rfl hl.1 rfl (lv_room (Nat.le_of_ble_eq_true rfl)) dX1_center_83 ⟨by first | decide | omega | (show _ ≤ (12 : Nat); omega), by first | decide | omega | (show _ ≤ (120 : Nat); omega)⟩) hP hD hS hA [] [0, 1] rfl rfl (by decide) (by decide) (fun u9 ra9 H locs hq hX hz hk hP hD hS => ?_)
          obtain ⟨ra_5, rfl⟩ : ∃ z, z = ra9 := ⟨_, rfl⟩
          have hP : va_P (dC, dI) vwCl [((xa 7), .inl (dA 4, 8, .inr (.inr (.inr (.inr (fun k => some (rm k))))))), (na_3, .inl (dA 1, 5, .inr (.inl (tabS (fun k => Ms ja (2 ^ k + 1)) (p0 - 1))))), (ra_5, .inr (17, []))] H := hP
          have hD : va_D A [((xa 7), .inl (dA 4, 8, .inr (.inr (.inr (.inr (fun k => some (rm k))))))), (na_3, .inl (dA 1, 5, .inr (.inl (tabS (fun k => Ms ja (2 ^ k + 1)) (p0 - 1))))), (ra_5, .inr (17, []))] := hD
          refine vx_athrow hx hb dX1_center_86 ?_
          obtain ⟨ce, h1, h2, h3⟩ := va_thr hK hP (ci := 17) (q0 := 2) rfl rfl
          subst hQe
          exact vx_outP hown hlocks (by rw [hxt]; exact (List.forall_mem_cons.mpr ⟨Or.inl (by decide), (fun _ h => nomatch h)⟩)) h1 h2 h3 (fun t10 e10 _ => ⟨(), trivial, (⟨Or.inr (Or.inr (⟨rfl, cen_3 h7jt h7ja hws (cen_f hcp.2.2.2 hpU)⟩)), by rw [e10]; exact hP.sub (ws' := [((xa 7), .inl (dA 4, 8, .inr (.inr (.inr (.inr (fun k => some (rm k)))))))]) [0] rfl⟩ : (_ ∧ _)), hS.F e10⟩) hS.2.2 (by first | decide | omega) (by first | decide | omega)
        obtain ⟨ra_6, rfl⟩ : ∃ z, z = ra9 := ⟨_, rfl⟩
        obtain ⟨mr_6, M_6⟩ := u9
        have e_6 := hq
        have sm_6 : MSm M_6 := fitG_sm (aN_nz htz) hcn e_6
        clear hq
        have hP : va_P (dC, dI) vwCl [((xa 7), .inl (dA 4, 8, .inr (.inr (.inr (.inr (fun k => some (rm k))))))), (na_3, .inl (dA 1, 5, .inr (.inl (tabS (fun k => Ms ja (2 ^ k + 1)) (p0 - 1))))), (ra_6, .inr (0, [.ref mr_6, .long (M_6 0)])), (mr_6, .inl (dA 1, 32, .inr (.inl (fun j => M_6 (j + 1)))))] H := hP
        have hD : va_D A [((xa 7), .inl (dA 4, 8, .inr (.inr (.inr (.inr (fun k => some (rm k))))))), (na_3, .inl (dA 1, 5, .inr (.inl (tabS (fun k => Ms ja (2 ^ k + 1)) (p0 - 1))))), (ra_6, .inr (0, [.ref mr_6, .long (M_6 0)])), (mr_6, .inl (dA 1, 32, .inr (.inl (fun j => M_6 (j + 1)))))] := hD
        have hF9 := va_free (wc := [((xa 7), .inl (dA 4, 8, .inr (.inr (.inr (.inr (fun k => some (rm k)))))))]) hD hS (fun q h => hA q h) [0] rfl
        refine c_i (wr := [(na_3, .inl (dA 1, 5, .inr (.inl (tabS (fun k => Ms ja (2 ^ k + 1)) (p0 - 1))))), (ra_6, .inr (0, [.ref mr_6, .long (M_6 0)])), (mr_6, .inl (dA 1, 32, .inr (.inl (fun j => M_6 (j + 1)))))]) (va_runV (As := [.int (nI jt), .ref ra_6]) (rest := []) ⟨hx, hb, hml, hown, hts⟩ (x1_store Z (va_A [((xa 7), .inl (dA 4, 8, .inr (.inr (.inr (.inr (fun k => some (rm k)))))))] H.size) H.size (fun q h => Or.inr h) Y xa tl ec ep ga (fun k => some (rm k)) jt ra_6 mr_6 M_6 (by omega)) (cwV 2 hts (lw_V q731 q733 qs6 q96 q734) rfl rfl rfl (by decide +kernel) ⟨Nat.le_of_ble_eq_true rfl, Nat.le_of_ble_eq_true rfl⟩) (gP_V (va_recv hK (hR0.up hS) (ci := 3) (q0 := 0) rfl rfl) hG hS (fun q _ h => hF9 q h) ⟨rfl, (hP.sub (ws' := [((xa 7), .inl (dA 4, 8, .inr (.inr (.inr (.inr (fun k => some (rm k)))))))]) [0] rfl), (hD.sub (ws' := [((xa 7), .inl (dA 4, 8, .inr (.inr (.inr (.inr (fun k => some (rm k)))))))]) [0] (by decide) rfl).self, (hR0.to hS (fun q _ h => hF9 q h)), (RO.beside (wr := [(ra_6, .inr (0, [.ref mr_6, .long (M_6 0)])), (mr_6, .inl (dA 1, 32, .inr (.inl (fun j => M_6 (j + 1)))))]) hP hD [0] [2, 3] rfl rfl (by decide))⟩) rfl rfl hl.1 rfl (lv_room (Nat.le_of_ble_eq_true rfl)) dX1_center_77 ⟨by first | decide | omega | (show _ ≤ (12 : Nat); omega), by first | decide | omega | (show _ ≤ (120 : Nat); omega)⟩) hP hD hS hA [0] [1, 2, 3] rfl rfl (by decide) (by decide) (fun r9 u9 H locs hq hX hz hk hP hD hS => ?_)
        obtain ⟨r_7, rfl⟩ : ∃ z, z = r9 := ⟨_, rfl⟩
        subst hq
        have hP : va_P (dC, dI) vwCl [(na_3, .inl (dA 1, 5, .inr (.inl (tabS (fun k => Ms ja (2 ^ k + 1)) (p0 - 1))))), (ra_6, .inr (0, [.ref mr_6, .long (M_6 0)])), (mr_6, .inl (dA 1, 32, .inr (.inl (fun j => M_6 (j + 1))))), ((xa 7), .inl (dA 4, 8, .inr (.inr (.inr (.inr (va_up (fun k => some (rm k)) jt (some ra_6)))))))] H := hP
        have hD : va_D A [(na_3, .inl (dA 1, 5, .inr (.inl (tabS (fun k => Ms ja (2 ^ k + 1)) (p0 - 1))))), (ra_6, .inr (0, [.ref mr_6, .long (M_6 0)])), (mr_6, .inl (dA 1, 32, .inr (.inl (fun j => M_6 (j + 1))))), ((xa 7), .inl (dA 4, 8, .inr (.inr (.inr (.inr (va_up (fun k => some (rm k)) jt (some ra_6)))))))] := hD
        have e8 : rg (nI jt) = jt := rg_n (by omega)
        subst hQe
        refine vx_ret ?_
        refine W.widen (k := 12) (n := 120) (by first | decide | omega) (by first | decide | omega) ?_
        exact W.iret (v := nI (trmS M_6)) hx hb hr (fun tz ht hW => ⟨⟨_, (ra_6, mr_6, M_6), rfl, ⟨cen_ok h7jt h7ja hws (cen_f hcp.2.2.2 e_6), rfl⟩, B1_at ht (by rw [e8]; exact hP.sub [3] rfl) (by rw [e8]; exact hD.sub [3] (by decide) rfl) (⟨hP.sub [1, 2] rfl, Or.inl ⟨fresh_of hD hAf 3 1 rfl rfl (by decide), fresh_of hD hAf 3 2 rfl rfl (by decide)⟩⟩)⟩, hS.F ht⟩) hS.2.2 dX1_center_80
      · have c_45 : ¬ (p0 - 1) ≤ kc := fun h => c_45 ((nI_leI (a := (p0 - 1)) (b := kc) (by omega) (by omega)).mpr h)
        have h2k9 := p5 (show kc < 5 by omega)
        refine lv_aload hx hb dX1_center_48 (lv_at hl 5 rfl) ?_
        refine lv_iload hx hb dX1_center_50 (lv_at hl 6 rfl) ?_
        refine lv_aload_n hx hb dX1_center_52 rfl (lv_at hl 3 rfl) ?_
        refine va_getN (D := (dC, dI)) (ci := 0) (v := .ref (rr ja)) (C := RX6) (T := TX6) (N := 2) hx hb hts in_X6 hown hK (hR2.up hS) 0 rfl rfl 0 (by decide) (((va_Nw.warmF hG.1 (va_Nw.of rfl (Z.2.1 _ q552)))).use rfl) (fun _ h9 => h9) rfl dX1_center_53 ?_
        refine lv_iconst (v := nI 1) hx hb dX1_center_56 (by decide) ?_
        refine lv_iload hx hb dX1_center_57 (lv_at hl 6 rfl) ?_
        refine lv_ishl hx hb dX1_center_59 ?_
        refine e_i (y := nI (2 ^ kc)) (n_shl1 (by omega)) ?_
        refine a_lald hx hb hK (hR2.up hS) 1 1 rfl rfl (by omega) (by omega) dX1_center_60 ?_
        refine a_last hx hb hK hP hD hS 1 1 rfl rfl (by omega) (by omega) dX1_center_61 (fun H locs hP hD hS => ?_)
        have hP : va_P (dC, dI) vwCl [((xa 7), .inl (dA 4, 8, .inr (.inr (.inr (.inr (fun k => some (rm k))))))), (na_3, .inl (dA 1, 5, .inr (.inl (vp_updL (tabS (fun k => Ms ja (2 ^ k + 1)) kc) kc ((fun j => Ms ja (j + 1)) (2 ^ kc))))))] H := hP
        have hD : va_D A [((xa 7), .inl (dA 4, 8, .inr (.inr (.inr (.inr (fun k => some (rm k))))))), (na_3, .inl (dA 1, 5, .inr (.inl (vp_updL (tabS (fun k => Ms ja (2 ^ k + 1)) kc) kc ((fun j => Ms ja (j + 1)) (2 ^ kc))))))] := hD
        have e9 : (vp_updL (tabS (fun k => Ms ja (2 ^ k + 1)) kc) kc ((fun j => Ms ja (j + 1)) (2 ^ kc)) : Nat → Int64) = (tabS (fun k => Ms ja (2 ^ k + 1)) (kc + 1)) := tabS_s _ _
        rw [e9] at hP hD; clear e9
        refine lv_iinc (v := nI (kc + 1)) (lv' := [(7, .int (nI (kc + 1))), (0, .ref (xa 0)), (1, .int (nI jt)), (2, .int (nI ja)), (3, .ref (rm ja)), (4, .long (twW p0 (Ms ja))), (6, .ref na_3)]) hx hb dX1_center_62 hl (k := 6) rfl (by exact nI_add _ 1) (by decide) rfl (fun ls hl => ?_)
        refine lv_goto (tgt := 39) hx hb dX1_center_65 (by decide) ?_
        exact ih_4 (kc + 1) H locs ls (by omega) (by omega) (hP.sub [0, 1] rfl) (hD.sub [0, 1] (by decide) rfl) hS (lv_sub hl [1, 2, 3, 4, 5, 6, 0] rfl)
  exact loop_4 _ 0 H locs ls (Nat.lt_succ_self _) (by omega) hP hD hS (lv_sub hl [4, 5, 6, 3, 2, 1, 0] rfl)
set_option maxHeartbeats 4000000 in
theorem x1_radiusSquare {l : Launch} {dC : Nat → ClassId} {dI : Nat → Nat → Nat} {dA : Nat → ClassId} {s0 : State} {b0 : Addr} (Z : Z0 l dC dI dA s0 b0) (A : Nat → Prop) (sz : Nat) (hA : ∀ q : Nat, sz ≤ q → A q) {σ : Nat → Nat} (Y : SS (dC, dI) dA σ s0) (xa : Nat → Nat) (tl : Nat) (ec ep : Int32) (ga sg : Nat) (sr : Nat → Nat) (p0 q0 r0 : Nat) (rm rr : Nat → Nat) (Ms : Nat → MV) (t a : Int32) (sR : ∀ k, k < 8 → MSm (Ms k)) (pR : ∀ k, k < 8 → MSp (2 ^ (p0 + q0 + r0)) (Ms k)) (hAf : ∀ q, A q → q = xa 7 ∨ sz ≤ q) : vx_Met l yX1_radiusSquare (wsW_ yX1_radiusSquare cX1_radiusSquare 9 (some .int) [((31 : Nat), (89 : Nat), (90 : Nat), (179 : Nat))]) ({ frames := 9, cells := 14, slots := 160, locals := 540 } : Room) (gP [.ref (xa 0), .int t, .int a] s0 A (fun H => H.size = sz ∧ va_P (dC, dI) vwCl [((xa 7), .inl (dA 4, 8, .inr (.inr (.inr (.inr (fun k => some (rm k)))))))] H ∧ va_D A [((xa 7), .inl (dA 4, 8, .inr (.inr (.inr (.inr (fun k => some (rm k)))))))] ∧ RO A (dC, dI) [((xa 0), .inr (3, xFs xa tl ec ep)), ((xa 3), .inr (4, [.ref ga, .ref (xa 7)]))] H ∧ AG A (dC, dI) dA ga sg sr p0 q0 r0 H ∧ RG A (dC, dI) dA rm rr Ms H)) (va_Qi (S := Nat × Nat × MV) (fun r9 u => raX p0 q0 r0 Ms t a = (nI 0, some u.2.2) ∧ r9 = nI (trmS u.2.2)) (B1 (dC, dI) A (fun u => [(xa 7, .inl (dA 4, 8, .inr (.inr (.inr (.inr (va_up (fun k => some (rm k)) (rg t) (some u.1)))))))]) (fun u H => NM (dC, dI) dA σ rm rr Ms sz u H)) A) (vx_X (S := Unit) (fun _ => True) (fun _ E _ t9 => ((E = "java/lang/IndexOutOfBoundsException" ∧ raX p0 q0 r0 Ms t a = (nI 1, none)) ∨ (E = "java/lang/IllegalStateException" ∧ raX p0 q0 r0 Ms t a = (nI 2, none)) ∨ (E = "java/lang/ArithmeticException" ∧ raX p0 q0 r0 Ms t a = (nI 3, none))) ∧ va_P (dC, dI) vwCl [((xa 7), .inl (dA 4, 8, .inr (.inr (.inr (.inr (fun k => some (rm k)))))))] t9.heap) A) 14 160 A := by
  refine vx_ofWH (cc := cX1_radiusSquare) (maxL := 9) (ret := (some .int)) (by decide) rfl ?_
  intro p e s m args below meth c s₁ B hml hv
  obtain ⟨hav, hG, hsz, hP, hD, hR0, hAG, hRG⟩ := hv
  have hx := B.exec
  have hb := B.bytes
  have hr := B.returns
  have hts := atoms_spec (ws := (wsW_ yX1_radiusSquare cX1_radiusSquare 9 (some .int) [((31 : Nat), (89 : Nat), (90 : Nat), (179 : Nat))])) B.pre
  have hxt : c.exceptionTable.toList = [⟨31, 89, 90, 179⟩] := vx_table (x := yX1_radiusSquare) (y := yX1_radiusSquare) B (hts _ List.mem_cons_self)
  have hts : ∀ w ∈ lw_all, w.before _ s = true := fun w h => hts w (List.mem_cons_of_mem _ h)
  have hown : s.vm.findClass RX1 = some m.cls := findClass_of_methodNamed B.named
  have hlocks := B.notSynchronized
  have hK := hG.K Z
  subst hsz
  have hS : va_S A s.heap s.heap [] := va_S.rf
  have hl := lv_entry ([.ref (xa 0), .int t, .int a]) (n := 9) (Nat.le_of_ble_eq_true rfl)
  rw [show entryFrame m args 9 = entryFrame m ([.ref (xa 0), .int t, .int a] : List Value).toArray 9 from by rw [hav], lg_entry_eq]
  generalize (lg_sl ([.ref (xa 0), .int t, .int a]) ++ List.replicate (9 - (lg_sl ([.ref (xa 0), .int t, .int a])).length) Slot.unset).toArray = ls at hl ⊢
  have hl : lv_has ls 9 [(0, .ref (xa 0)), (1, .int t), (2, .int a)] := hl
  generalize hQe : vx_MQ below _ _ _ s _ _ _ = Q
  change W p l e ({ frames := 9, cells := 14, slots := 160, locals := 540 } : Room) s m args below meth c s.heap [] 0 0 Q (F0 m 0 ls [])
  have hn := hAG.1
  have h5 := pow5 hn
  have hR1 := hAG.2.1
  refine lv_iconst (v := nI 2) hx hb dX1_radiusSquare_0 (by decide) ?_
  refine a_newa (D := (dC, dI)) (atype := .int) (N' := 2) (a0 := (2, .inl (fun _ => 0))) hx hb (hts _ q230) rfl hK hP hD hS hA 0 rfl (fun _ => ra_int) (fun _ => rfl) (by decide) (by decide) (by decide) (by first | decide | omega) (by first | decide | omega) dX1_radiusSquare_1 (fun na_1 H locs hP hD hS => ?_)
  have hP : va_P (dC, dI) vwCl [((xa 7), .inl (dA 4, 8, .inr (.inr (.inr (.inr (fun k => some (rm k))))))), (na_1, .inl (dA 0, 2, .inl (fun _ => 0)))] H := hP
  have hD : va_D A [((xa 7), .inl (dA 4, 8, .inr (.inr (.inr (.inr (fun k => some (rm k))))))), (na_1, .inl (dA 0, 2, .inl (fun _ => 0)))] := hD
  refine lv_dup hx hb dX1_radiusSquare_3 rfl ?_
  refine lv_iconst (v := nI 0) hx hb dX1_radiusSquare_4 (by decide) ?_
  refine lv_iload_n hx hb dX1_radiusSquare_5 rfl (lv_at hl 1 rfl) ?_
  refine a_iast hx hb hK hP hD hS 1 0 rfl rfl (by omega) (by omega) dX1_radiusSquare_6 (fun H locs hP hD hS => ?_)
  have hP : va_P (dC, dI) vwCl [((xa 7), .inl (dA 4, 8, .inr (.inr (.inr (.inr (fun k => some (rm k))))))), (na_1, .inl (dA 0, 2, .inl (upd (fun _ => 0) 0 t)))] H := hP
  have hD : va_D A [((xa 7), .inl (dA 4, 8, .inr (.inr (.inr (.inr (fun k => some (rm k))))))), (na_1, .inl (dA 0, 2, .inl (upd (fun _ => 0) 0 t)))] := hD
  refine lv_dup hx hb dX1_radiusSquare_7 rfl ?_
  refine lv_iconst (v := nI 1) hx hb dX1_radiusSquare_8 (by decide) ?_
  refine lv_iload_n hx hb dX1_radiusSquare_9 rfl (lv_at hl 2 rfl) ?_
  refine a_iast hx hb hK hP hD hS 1 0 rfl rfl (by omega) (by omega) dX1_radiusSquare_10 (fun H locs hP hD hS => ?_)
  have hP : va_P (dC, dI) vwCl [((xa 7), .inl (dA 4, 8, .inr (.inr (.inr (.inr (fun k => some (rm k))))))), (na_1, .inl (dA 0, 2, .inl (upd (upd (fun _ => 0) 0 t) 1 a)))] H := hP
  have hD : va_D A [((xa 7), .inl (dA 4, 8, .inr (.inr (.inr (.inr (fun k => some (rm k))))))), (na_1, .inl (dA 0, 2, .inl (upd (upd (fun _ => 0) 0 t) 1 a)))] := hD
  have hF9 := va_free (wc := []) hD hS (fun q h => hA q h) [] rfl
  refine x_v (wc := []) (wr := [((xa 7), .inl (dA 4, 8, .inr (.inr (.inr (.inr (fun k => some (rm k))))))), (na_1, .inl (dA 0, 2, .inl (upd (upd (fun _ => 0) 0 t) 1 a)))]) (vx_runS (As := [.ref na_1]) (rest := []) ⟨hx, hb, hml, hown, hts⟩ (x1_registers Z (va_A [] H.size) H.size (fun q h => Or.inr h) Y na_1 2 (upd (upd (fun _ => 0) 0 t) 1 a) (by decide)) (va_cwS 1 hts (lw_S q469 q470 q96 q471) rfl rfl rfl (by decide +kernel) ⟨Nat.le_of_ble_eq_true rfl, Nat.le_of_ble_eq_true rfl⟩) (gP_S hG hS (fun q _ h => hF9 q h) ⟨rfl, (RO.beside (wr := [(na_1, .inl (dA 0, 2, .inl (upd (upd (fun _ => 0) 0 t) 1 a)))]) hP hD [] [1] rfl rfl (by decide))⟩) rfl rfl hl.1 rfl (lv_room (Nat.le_of_ble_eq_true rfl)) dX1_radiusSquare_11 ⟨by first | decide | omega | (show _ ≤ (14 : Nat); omega), by first | decide | omega | (show _ ≤ (160 : Nat); omega)⟩) hP hD hS hA [] [0, 1] rfl rfl (by decide) (by decide) (fun E ce q9 u9 t9 H locs ht9 hp9 hb9 hz hP hS h1 h2 h3 => ?_) (fun u9 H locs hq hX hz hk hP hD hS => ?_)
  · have hD := hD.sub (ws' := [((xa 7), .inl (dA 4, 8, .inr (.inr (.inr (.inr (fun k => some (rm k))))))), (na_1, .inl (dA 0, 2, .inl (upd (upd (fun _ => 0) 0 t) 1 a)))]) [0, 1] (by decide) rfl
    have hP : va_P (dC, dI) vwCl [((xa 7), .inl (dA 4, 8, .inr (.inr (.inr (.inr (fun k => some (rm k))))))), (na_1, .inl (dA 0, 2, .inl (upd (upd (fun _ => 0) 0 t) 1 a)))] H := hP
    have hD : va_D A [((xa 7), .inl (dA 4, 8, .inr (.inr (.inr (.inr (fun k => some (rm k))))))), (na_1, .inl (dA 0, 2, .inl (upd (upd (fun _ => 0) 0 t) 1 a)))] := hD
    subst hb9
    subst hQe
    exact vx_outP hown hlocks (by rw [hxt]; exact (List.forall_mem_cons.mpr ⟨Or.inl (by decide), (fun _ h => nomatch h)⟩)) h1 h2 h3 (fun t10 e10 _ => ⟨(), trivial, (⟨Or.inl (⟨rfl, rad_1 (rgs2.symm.trans hp9)⟩), by rw [e10]; exact hP.sub (ws' := [((xa 7), .inl (dA 4, 8, .inr (.inr (.inr (.inr (fun k => some (rm k)))))))]) [0] rfl⟩ : (_ ∧ _)), hS.F e10⟩) hS.2.2 (by first | decide | omega) (by first | decide | omega)
  have hrg : (rgB t && rgB a) = true := rgs2.symm.trans hq
  clear hq
  have hP : va_P (dC, dI) vwCl [((xa 7), .inl (dA 4, 8, .inr (.inr (.inr (.inr (fun k => some (rm k))))))), (na_1, .inl (dA 0, 2, .inl (upd (upd (fun _ => 0) 0 t) 1 a)))] H := hP
  have hD : va_D A [((xa 7), .inl (dA 4, 8, .inr (.inr (.inr (.inr (fun k => some (rm k))))))), (na_1, .inl (dA 0, 2, .inl (upd (upd (fun _ => 0) 0 t) 1 a)))] := hD
  have hP0 := hP.sub (ws' := [((xa 7), .inl (dA 4, 8, .inr (.inr (.inr (.inr (fun k => some (rm k)))))))]) [0] rfl
  have hD0 := hD.sub (ws' := [((xa 7), .inl (dA 4, 8, .inr (.inr (.inr (.inr (fun k => some (rm k)))))))]) [0] (by decide) rfl
  have h8jt := inB_nat (by decide) (show inB t (nI 0) (nI 7) = true from (Bool.and_eq_true_iff.mp hrg).1)
  have h8ja := inB_nat (by decide) (show inB a (nI 0) (nI 7) = true from (Bool.and_eq_true_iff.mp hrg).2)
  obtain ⟨jt, h9jt, e8jt⟩ := h8jt
  obtain ⟨ja, h9ja, e8ja⟩ := h8ja
  have h7jt : jt < 8 := by omega
  subst e8jt
  have h7ja : ja < 8 := by omega
  subst e8ja
  have hP := hP0
  have hD := hD0
  refine lv_aload_n hx hb dX1_radiusSquare_14 rfl (lv_at hl 0 rfl) ?_
  refine va_get (D := (dC, dI)) (ci := 3) (v := .ref (xa 3)) (C := RX1) (T := TX1) (N := 9) hx hb hts in_X1 hown hK (hR0.up hS) 0 rfl rfl 2 (by decide) (hts _ q286) (fun _ h9 => h9) rfl dX1_radiusSquare_15 ?_
  refine va_getN (D := (dC, dI)) (ci := 4) (v := .ref (xa 7)) (C := RX4) (T := TX4) (N := 2) hx hb hts in_X4 hown hK (hR0.up hS) 1 rfl rfl 1 (by decide) (((va_Nw.warmF hG.1 (va_Nw.of rfl (Z.2.1 _ q243)))).use rfl) (fun _ h9 => h9) rfl dX1_radiusSquare_18 ?_
  refine lv_iload_n hx hb dX1_radiusSquare_21 rfl (lv_at hl 2 rfl) ?_
  refine a_aldq hx hb hK hP 0 4 rfl rfl (by omega) (by decide) dX1_radiusSquare_22 ?_
  refine e_v (y := .ref (rm ja)) (rfl) ?_
  have hR2 := hRG ja (by omega)
  refine lv_astore_n (lv' := [(3, .ref (rm ja)), (0, .ref (xa 0)), (1, .int (nI jt)), (2, .int (nI ja))]) hx hb dX1_radiusSquare_23 rfl hl (by decide) rfl (fun ls hl => ?_)
  refine lv_aload_n hx hb dX1_radiusSquare_24 rfl (lv_at hl 1 rfl) ?_
  refine lv_aload_n hx hb dX1_radiusSquare_25 rfl (lv_at hl 0 rfl) ?_
  have hF9 := va_free (wc := []) hD hS (fun q h => hA q h) [] rfl
  refine x_l (wc := []) (wr := [((xa 7), .inl (dA 4, 8, .inr (.inr (.inr (.inr (fun k => some (rm k)))))))]) (vx_runV (As := [.ref (rm ja)]) (rest := []) ⟨hx, hb, hml, hown, hts⟩ (x1_weight Z (va_A [] H.size) H.size (fun q h => Or.inr h) Y xa tl ec ep ga sg sr p0 q0 r0 0 (rm ja) (rr ja) (Ms ja) (sR ja (by omega))) (cwV 1 hts (lw_V q1149 q1151 qs14 q96 q1152) rfl rfl rfl (by decide +kernel) ⟨Nat.le_of_ble_eq_true rfl, Nat.le_of_ble_eq_true rfl⟩) (gP_V (va_recv hK (hR0.up hS) (ci := 3) (q0 := 0) rfl rfl) hG hS (fun q _ h => hF9 q h) ⟨rfl, (hR0.to hS (fun q _ h => hF9 q h)), (hR2.to hS (fun q _ h => hF9 q h)), (hAG.to hS (fun q _ h => hF9 q h))⟩) rfl rfl hl.1 rfl (lv_room (Nat.le_of_ble_eq_true rfl)) dX1_radiusSquare_26 ⟨by first | decide | omega | (show _ ≤ (14 : Nat); omega), by first | decide | omega | (show _ ≤ (160 : Nat); omega)⟩) hP hD hS hA [] [0] rfl rfl (by decide) (by decide) (fun E ce q9 u9 t9 H locs ht9 hp9 hb9 hz hP hS h1 h2 h3 => ?_) (fun r9 u9 H locs hq hX hz hk hP hD hS => ?_)
  · have hD := hD.sub (ws' := [((xa 7), .inl (dA 4, 8, .inr (.inr (.inr (.inr (fun k => some (rm k)))))))]) [0] (by decide) rfl
    have hP : va_P (dC, dI) vwCl [((xa 7), .inl (dA 4, 8, .inr (.inr (.inr (.inr (fun k => some (rm k)))))))] H := hP
    have hD : va_D A [((xa 7), .inl (dA 4, 8, .inr (.inr (.inr (.inr (fun k => some (rm k)))))))] := hD
    subst hb9
    subst hQe
    exact vx_outP hown hlocks (by rw [hxt]; exact (List.forall_mem_cons.mpr ⟨Or.inl (by decide), (fun _ h => nomatch h)⟩)) h1 h2 h3 (fun t10 e10 _ => ⟨(), trivial, (⟨Or.inr (Or.inl (⟨rfl, rad_2 h7jt h7ja hp9⟩)), by rw [e10]; exact hP.sub (ws' := [((xa 7), .inl (dA 4, 8, .inr (.inr (.inr (.inr (fun k => some (rm k)))))))]) [0] rfl⟩ : (_ ∧ _)), hS.F e10⟩) hS.2.2 (by first | decide | omega) (by first | decide | omega)
  obtain ⟨hws, hr9⟩ := hq
  obtain ⟨r_2, rfl⟩ : ∃ z, z = r9 := ⟨_, rfl⟩
  subst hr9
  have hP : va_P (dC, dI) vwCl [((xa 7), .inl (dA 4, 8, .inr (.inr (.inr (.inr (fun k => some (rm k)))))))] H := hP
  have hD : va_D A [((xa 7), .inl (dA 4, 8, .inr (.inr (.inr (.inr (fun k => some (rm k)))))))] := hD
  refine lv_lstore (lv' := [(4, .long (twW p0 (Ms ja))), (3, .ref (rm ja)), (0, .ref (xa 0)), (1, .int (nI jt)), (2, .int (nI ja))]) hx hb dX1_radiusSquare_29 hl (by decide) rfl (fun ls hl => ?_)
  obtain ⟨hcf, hvc, htz⟩ := wsb_of hws
  have hcp := cf_p hcf
  have hct := twW_bd (show p0 ≤ 4 by omega) (sR ja (by omega))
  have hsq := tw_sq hct htz
  refine lv_aload_n hx hb dX1_radiusSquare_31 rfl (lv_at hl 2 rfl) ?_
  refine va_get (D := (dC, dI)) (ci := 3) (v := .ref (xa 3)) (C := RX1) (T := TX1) (N := 9) hx hb hts in_X1 hown hK (hR0.up hS) 0 rfl rfl 2 (by decide) (hts _ q286) (fun _ h9 => h9) rfl dX1_radiusSquare_32 ?_
  refine va_getN (D := (dC, dI)) (ci := 4) (v := .ref ga) (C := RX4) (T := TX4) (N := 2) hx hb hts in_X4 hown hK (hR0.up hS) 1 rfl rfl 0 (by decide) (((va_Nw.warmF hG.1 (va_Nw.of rfl (Z.2.1 _ q240)))).use rfl) (fun _ h9 => h9) rfl dX1_radiusSquare_35 ?_
  refine lv_aload_n hx hb dX1_radiusSquare_38 rfl (lv_at hl 1 rfl) ?_
  refine lv_aload_n hx hb dX1_radiusSquare_39 rfl (lv_at hl 1 rfl) ?_
  refine va_gets (v := .ref (σ (10 + 4))) hx hb (hG.Z Z (SS.pr Y 4 (by decide)).1) hS hown (hts _ q1160) (fun _ h9 => h9) dX1_radiusSquare_40 ?_
  have hF9 := va_free (wc := []) hD hS (fun q h => hA q h) [] rfl
  refine x_r (wc := []) (wr := [((xa 7), .inl (dA 4, 8, .inr (.inr (.inr (.inr (fun k => some (rm k)))))))]) (vx_runV (As := [.ref (rm ja), .ref (rm ja), .ref (σ (10 + 4))]) (rest := []) ⟨hx, hb, hml, hown, hts⟩ (x5_product Z (va_A [] H.size) H.size (fun q h => Or.inr h) Y ga sg sr p0 q0 r0 (rm ja) (rr ja) (Ms ja) (rm ja) (rr ja) (Ms ja) 4 (by omega) (sR ja (by omega)) (sR ja (by omega))) (cwV 3 hts (lw_V q870 q658 q659 q101 q660) rfl rfl rfl (by decide +kernel) ⟨Nat.le_of_ble_eq_true rfl, Nat.le_of_ble_eq_true rfl⟩) (gP_V (va_recv hK (hR1.up hS) (ci := 1) (q0 := 0) rfl rfl) hG hS (fun q _ h => hF9 q h) ⟨rfl, (hR2.to hS (fun q _ h => hF9 q h)), (hR2.to hS (fun q _ h => hF9 q h)), (hAG.to hS (fun q _ h => hF9 q h))⟩) rfl rfl hl.1 rfl (lv_room (Nat.le_of_ble_eq_true rfl)) dX1_radiusSquare_43 ⟨by first | decide | omega | (show _ ≤ (14 : Nat); omega), by first | decide | omega | (show _ ≤ (160 : Nat); omega)⟩) hP hD hS hA [] [0] rfl rfl (by decide) (by decide) (fun E ce q9 u9 t9 H locs ht9 hp9 hb9 hz hP hS h1 h2 h3 => ?_) (fun u9 ra9 H locs hq hX hz hk hP hD hS => ?_)
  · have hD := hD.sub (ws' := [((xa 7), .inl (dA 4, 8, .inr (.inr (.inr (.inr (fun k => some (rm k)))))))]) [0] (by decide) rfl
    have hP : va_P (dC, dI) vwCl [((xa 7), .inl (dA 4, 8, .inr (.inr (.inr (.inr (fun k => some (rm k)))))))] H := hP
    have hD : va_D A [((xa 7), .inl (dA 4, 8, .inr (.inr (.inr (.inr (fun k => some (rm k)))))))] := hD
    subst hb9
    refine vx_catch (name := "BladeAlgebra$Unfit") (E := "BladeAlgebra$Unfit") (ce := ce) hown [] ⟨31, 89, 90, 179⟩ [] hxt (fun _ h => nomatch h) (by decide) (by decide) (hts _ q468) (castZ Z hG q523) h1 h2 h3 ?_
    have hpU := hp9
    refine lv_astore (lv' := [(6, .ref q9), (4, .long (twW p0 (Ms ja))), (3, .ref (rm ja)), (0, .ref (xa 0)), (1, .int (nI jt)), (2, .int (nI ja))]) hx hb dX1_radiusSquare_90 hl (by decide) rfl (fun ls hl => ?_)
    have hF9 := va_free (wc := []) hD hS (fun q h => hA q h) [] rfl
    refine c_r (wr := [((xa 7), .inl (dA 4, 8, .inr (.inr (.inr (.inr (fun k => some (rm k)))))))]) (va_runS (As := []) (rest := []) ⟨hx, hb, hml, hown, hts⟩ (x1_large Z (va_A [] H.size) H.size (fun q h => Or.inr h) Y) (va_cwS 0 hts (lw_S q562 q563 q96 q564) rfl rfl rfl (by decide +kernel) ⟨Nat.le_of_ble_eq_true rfl, Nat.le_of_ble_eq_true rfl⟩) (gP_S hG hS (fun q _ h => hF9 q h) rfl) rfl rfl hl.1 rfl (lv_room (Nat.le_of_ble_eq_true rfl)) dX1_radiusSquare_92 ⟨by first | decide | omega | (show _ ≤ (14 : Nat); omega), by first | decide | omega | (show _ ≤ (160 : Nat); omega)⟩) hP hD hS hA [] [0] rfl rfl (by decide) (by decide) (fun u9 ra9 H locs hq hX hz hk hP hD hS => ?_)
    obtain ⟨ra_3, rfl⟩ : ∃ z, z = ra9 := ⟨_, rfl⟩
    have hP : va_P (dC, dI) vwCl [((xa 7), .inl (dA 4, 8, .inr (.inr (.inr (.inr (fun k => some (rm k))))))), (ra_3, .inr (17, []))] H := hP
    have hD : va_D A [((xa 7), .inl (dA 4, 8, .inr (.inr (.inr (.inr (fun k => some (rm k))))))), (ra_3, .inr (17, []))] := hD
    refine vx_athrow hx hb dX1_radiusSquare_95 ?_
    obtain ⟨ce, h1, h2, h3⟩ := va_thr hK hP (ci := 17) (q0 := 1) rfl rfl
    subst hQe
    exact vx_outP hown hlocks (by rw [hxt]; exact (List.forall_mem_cons.mpr ⟨Or.inl (by decide), (fun _ h => nomatch h)⟩)) h1 h2 h3 (fun t10 e10 _ => ⟨(), trivial, (⟨Or.inr (Or.inr (⟨rfl, rad_3 h7jt h7ja hws hpU⟩)), by rw [e10]; exact hP.sub (ws' := [((xa 7), .inl (dA 4, 8, .inr (.inr (.inr (.inr (fun k => some (rm k)))))))]) [0] rfl⟩ : (_ ∧ _)), hS.F e10⟩) hS.2.2 (by first | decide | omega) (by first | decide | omega)
  obtain ⟨ra_4, rfl⟩ : ∃ z, z = ra9 := ⟨_, rfl⟩
  obtain ⟨mr_4, M_4⟩ := u9
  have e_4 := hq
  have sm_4 : MSm M_4 := mulS_sm (sR ja (by omega)) (sR ja (by omega)) e_4
  clear hq
  have hP : va_P (dC, dI) vwCl [((xa 7), .inl (dA 4, 8, .inr (.inr (.inr (.inr (fun k => some (rm k))))))), (ra_4, .inr (0, [.ref mr_4, .long (M_4 0)])), (mr_4, .inl (dA 1, 32, .inr (.inl (fun j => M_4 (j + 1)))))] H := hP
  have hD : va_D A [((xa 7), .inl (dA 4, 8, .inr (.inr (.inr (.inr (fun k => some (rm k))))))), (ra_4, .inr (0, [.ref mr_4, .long (M_4 0)])), (mr_4, .inl (dA 1, 32, .inr (.inl (fun j => M_4 (j + 1)))))] := hD
  refine lv_astore (lv' := [(6, .ref ra_4), (4, .long (twW p0 (Ms ja))), (3, .ref (rm ja)), (0, .ref (xa 0)), (1, .int (nI jt)), (2, .int (nI ja))]) hx hb dX1_radiusSquare_46 hl (by decide) rfl (fun ls hl => ?_)
  refine lv_aload hx hb dX1_radiusSquare_48 (lv_at hl 0 rfl) ?_
  refine va_getN (D := (dC, dI)) (ci := 0) (v := .ref mr_4) (C := RX6) (T := TX6) (N := 2) hx hb hts in_X6 hown hK hP 1 rfl rfl 0 (by decide) (((va_Nw.warmF hG.1 (va_Nw.of rfl (Z.2.1 _ q552)))).use rfl) (fun _ h9 => h9) rfl dX1_radiusSquare_50 ?_
  refine lv_iconst (v := nI 0) hx hb dX1_radiusSquare_53 (by decide) ?_
  refine a_lald hx hb hK hP 2 1 rfl rfl (by omega) (by omega) dX1_radiusSquare_54 ?_
  refine e_l (y := M_4 1) (rfl) ?_
  refine lv_aload_n hx hb dX1_radiusSquare_55 rfl (lv_at hl 2 rfl) ?_
  refine va_getN (D := (dC, dI)) (ci := 0) (v := .long (Ms ja 0)) (C := RX6) (T := TX6) (N := 2) hx hb hts in_X6 hown hK (hR2.up hS) 0 rfl rfl 1 (by decide) (((va_Nw.warmF hG.1 (va_Nw.of rfl (Z.2.1 _ q556)))).use rfl) (fun _ h9 => h9) rfl dX1_radiusSquare_56 ?_
  refine lv_aload_n hx hb dX1_radiusSquare_59 rfl (lv_at hl 2 rfl) ?_
  refine va_getN (D := (dC, dI)) (ci := 0) (v := .long (Ms ja 0)) (C := RX6) (T := TX6) (N := 2) hx hb hts in_X6 hown hK (hR2.up hS) 0 rfl rfl 1 (by decide) (((va_Nw.warmF hG.1 (va_Nw.of rfl (Z.2.1 _ q556)))).use rfl) (fun _ h9 => h9) rfl dX1_radiusSquare_60 ?_
  refine lv_lmul hx hb dX1_radiusSquare_63 ?_
  refine lv_aload hx hb dX1_radiusSquare_64 (lv_at hl 0 rfl) ?_
  refine va_getN (D := (dC, dI)) (ci := 0) (v := .long (M_4 0)) (C := RX6) (T := TX6) (N := 2) hx hb hts in_X6 hown hK hP 1 rfl rfl 1 (by decide) (((va_Nw.warmF hG.1 (va_Nw.of rfl (Z.2.1 _ q556)))).use rfl) (fun _ h9 => h9) rfl dX1_radiusSquare_66 ?_
  refine lv_ldiv hx hb dX1_radiusSquare_69 (mn_nz sm_4.1) ?_
  refine lv_lmul hx hb dX1_radiusSquare_70 ?_
  refine e_l (y := raQ p0 q0 r0 (Ms ja) (p0 + q0 + r0)) (rad_a hn (sR ja (by omega)) hvc e_4) ?_
  refine lv_lstore (lv' := [(7, .long (raQ p0 q0 r0 (Ms ja) (p0 + q0 + r0))), (6, .ref ra_4), (4, .long (twW p0 (Ms ja))), (3, .ref (rm ja)), (0, .ref (xa 0)), (1, .int (nI jt)), (2, .int (nI ja))]) hx hb dX1_radiusSquare_71 hl (by decide) rfl (fun ls hl => ?_)
  refine lv_aload_n hx hb dX1_radiusSquare_73 rfl (lv_at hl 4 rfl) ?_
  refine lv_iload_n hx hb dX1_radiusSquare_74 rfl (lv_at hl 5 rfl) ?_
  refine lv_iconst (v := nI 0) hx hb dX1_radiusSquare_75 (by decide) ?_
  refine lv_lload hx hb dX1_radiusSquare_76 (lv_at hl 0 rfl) ?_
  refine lv_lload hx hb dX1_radiusSquare_78 (lv_at hl 2 rfl) ?_
  refine lv_lload hx hb dX1_radiusSquare_80 (lv_at hl 2 rfl) ?_
  refine lv_lmul hx hb dX1_radiusSquare_82 ?_
  have hF9 := va_free (wc := []) hD hS (fun q h => hA q h) [] rfl
  refine x_r (wc := []) (wr := [((xa 7), .inl (dA 4, 8, .inr (.inr (.inr (.inr (fun k => some (rm k))))))), (ra_4, .inr (0, [.ref mr_4, .long (M_4 0)])), (mr_4, .inl (dA 1, 32, .inr (.inl (fun j => M_4 (j + 1)))))]) (vx_runS (As := [.int (nI 0), .long (raQ p0 q0 r0 (Ms ja) (p0 + q0 + r0)), .long ((twW p0 (Ms ja)) * (twW p0 (Ms ja)))]) (rest := [.int (nI jt), .ref (xa 0)]) ⟨hx, hb, hml, hown, hts⟩ (x6_of Z (va_A [] H.size) H.size (fun q h => Or.inr h) Y 0 (raQ p0 q0 r0 (Ms ja) (p0 + q0 + r0)) ((twW p0 (Ms ja)) * (twW p0 (Ms ja))) (by omega) (ne_min_of (raQ_bd (sR ja (by omega)) (p0 + q0 + r0) (by omega)) (by omega)) (aN_pos hsq) (nm_p hsq)) (va_cwS 3 hts (lw_S q858 q819 q102 q820) rfl rfl rfl (by decide +kernel) ⟨Nat.le_of_ble_eq_true rfl, Nat.le_of_ble_eq_true rfl⟩) (gP_S hG hS (fun q _ h => hF9 q h) rfl) rfl rfl hl.1 rfl (lv_room (Nat.le_of_ble_eq_true rfl)) dX1_radiusSquare_83 ⟨by first | decide | omega | (show _ ≤ (14 : Nat); omega), by first | decide | omega | (show _ ≤ (160 : Nat); omega)⟩) hP hD hS hA [] [0, 1, 2] rfl rfl (by decide) (by decide) (fun E ce q9 u9 t9 H locs ht9 hp9 hb9 hz hP hS h1 h2 h3 => ?_) (fun u9 ra9 H locs hq hX hz hk hP hD hS => ?_)
  · have hD := hD.sub (ws' := [((xa 7), .inl (dA 4, 8, .inr (.inr (.inr (.inr (fun k => some (rm k))))))), (ra_4, .inr (0, [.ref mr_4, .long (M_4 0)])), (mr_4, .inl (dA 1, 32, .inr (.inl (fun j => M_4 (j + 1)))))]) [0, 1, 2] (by decide) rfl
    have hP : va_P (dC, dI) vwCl [((xa 7), .inl (dA 4, 8, .inr (.inr (.inr (.inr (fun k => some (rm k))))))), (ra_4, .inr (0, [.ref mr_4, .long (M_4 0)])), (mr_4, .inl (dA 1, 32, .inr (.inl (fun j => M_4 (j + 1)))))] H := hP
    have hD : va_D A [((xa 7), .inl (dA 4, 8, .inr (.inr (.inr (.inr (fun k => some (rm k))))))), (ra_4, .inr (0, [.ref mr_4, .long (M_4 0)])), (mr_4, .inl (dA 1, 32, .inr (.inl (fun j => M_4 (j + 1)))))] := hD
    subst hb9
    refine vx_catch (name := "BladeAlgebra$Unfit") (E := "BladeAlgebra$Unfit") (ce := ce) hown [] ⟨31, 89, 90, 179⟩ [] hxt (fun _ h => nomatch h) (by decide) (by decide) (hts _ q468) (castZ Z hG q523) h1 h2 h3 ?_
    have hpU := hp9
    refine lv_astore (lv' := [(6, .ref q9), (7, .long (raQ p0 q0 r0 (Ms ja) (p0 + q0 + r0))), (4, .long (twW p0 (Ms ja))), (3, .ref (rm ja)), (0, .ref (xa 0)), (1, .int (nI jt)), (2, .int (nI ja))]) hx hb dX1_radiusSquare_90 hl (by decide) rfl (fun ls hl => ?_)
    have hF9 := va_free (wc := []) hD hS (fun q h => hA q h) [] rfl
    refine c_r (wr := [((xa 7), .inl (dA 4, 8, .inr (.inr (.inr (.inr (fun k => some (rm k))))))), (ra_4, .inr (0, [.ref mr_4, .long (M_4 0)])), (mr_4, .inl (dA 1, 32, .inr (.inl (fun j => M_4 (j + 1)))))]) (va_runS (As := []) (rest := []) ⟨hx, hb, hml, hown, hts⟩ (x1_large Z (va_A [] H.size) H.size (fun q h => Or.inr h) Y) (va_cwS 0 hts (lw_S q562 q563 q96 q564) rfl rfl rfl (by decide +kernel) ⟨Nat.le_of_ble_eq_true rfl, Nat.le_of_ble_eq_true rfl⟩) (gP_S hG hS (fun q _ h => hF9 q h) rfl) rfl rfl hl.1 rfl (lv_room (Nat.le_of_ble_eq_true rfl)) dX1_radiusSquare_92 ⟨by first | decide | omega | (show _ ≤ (14 : Nat); omega), by first | decide | omega | (show _ ≤ (160 : Nat); omega)⟩) hP hD hS hA [] [0, 1, 2] rfl rfl (by decide) (by decide) (fun u9 ra9 H locs hq hX hz hk hP hD hS => ?_)
    obtain ⟨ra_5, rfl⟩ : ∃ z, z = ra9 := ⟨_, rfl⟩
    have hP : va_P (dC, dI) vwCl [((xa 7), .inl (dA 4, 8, .inr (.inr (.inr (.inr (fun k => some (rm k))))))), (ra_4, .inr (0, [.ref mr_4, .long (M_4 0)])), (mr_4, .inl (dA 1, 32, .inr (.inl (fun j => M_4 (j + 1))))), (ra_5, .inr (17, []))] H := hP
    have hD : va_D A [((xa 7), .inl (dA 4, 8, .inr (.inr (.inr (.inr (fun k => some (rm k))))))), (ra_4, .inr (0, [.ref mr_4, .long (M_4 0)])), (mr_4, .inl (dA 1, 32, .inr (.inl (fun j => M_4 (j + 1))))), (ra_5, .inr (17, []))] := hD
    refine vx_athrow hx hb dX1_radiusSquare_95 ?_
    obtain ⟨ce, h1, h2, h3⟩ := va_thr hK hP (ci := 17) (q0 := 3) rfl rfl
    subst hQe
    exact vx_outP hown hlocks (by rw [hxt]; exact (List.forall_mem_cons.mpr ⟨Or.inl (by decide), (fun _ h => nomatch h)⟩)) h1 h2 h3 (fun t10 e10 _ => ⟨(), trivial, (⟨Or.inr (Or.inr (⟨rfl, rad_4 h7jt h7ja hws e_4 (rad_f hsq hpU)⟩)), by rw [e10]; exact hP.sub (ws' := [((xa 7), .inl (dA 4, 8, .inr (.inr (.inr (.inr (fun k => some (rm k)))))))]) [0] rfl⟩ : (_ ∧ _)), hS.F e10⟩) hS.2.2 (by first | decide | omega) (by first | decide | omega)
  obtain ⟨ra_6, rfl⟩ : ∃ z, z = ra9 := ⟨_, rfl⟩
  obtain ⟨mr_6, M_6⟩ := u9
  have e_6 := hq
  have sm_6 : MSm M_6 := fitG_sm (aN_pos hsq) (nm_p hsq) e_6
  clear hq
  have hP : va_P (dC, dI) vwCl [((xa 7), .inl (dA 4, 8, .inr (.inr (.inr (.inr (fun k => some (rm k))))))), (ra_4, .inr (0, [.ref mr_4, .long (M_4 0)])), (mr_4, .inl (dA 1, 32, .inr (.inl (fun j => M_4 (j + 1))))), (ra_6, .inr (0, [.ref mr_6, .long (M_6 0)])), (mr_6, .inl (dA 1, 32, .inr (.inl (fun j => M_6 (j + 1)))))] H := hP
  have hD : va_D A [((xa 7), .inl (dA 4, 8, .inr (.inr (.inr (.inr (fun k => some (rm k))))))), (ra_4, .inr (0, [.ref mr_4, .long (M_4 0)])), (mr_4, .inl (dA 1, 32, .inr (.inl (fun j => M_4 (j + 1))))), (ra_6, .inr (0, [.ref mr_6, .long (M_6 0)])), (mr_6, .inl (dA 1, 32, .inr (.inl (fun j => M_6 (j + 1)))))] := hD
  have hF9 := va_free (wc := [((xa 7), .inl (dA 4, 8, .inr (.inr (.inr (.inr (fun k => some (rm k)))))))]) hD hS (fun q h => hA q h) [0] rfl
  refine c_i (wr := [(ra_4, .inr (0, [.ref mr_4, .long (M_4 0)])), (mr_4, .inl (dA 1, 32, .inr (.inl (fun j => M_4 (j + 1))))), (ra_6, .inr (0, [.ref mr_6, .long (M_6 0)])), (mr_6, .inl (dA 1, 32, .inr (.inl (fun j => M_6 (j + 1)))))]) (va_runV (As := [.int (nI jt), .ref ra_6]) (rest := []) ⟨hx, hb, hml, hown, hts⟩ (x1_store Z (va_A [((xa 7), .inl (dA 4, 8, .inr (.inr (.inr (.inr (fun k => some (rm k)))))))] H.size) H.size (fun q h => Or.inr h) Y xa tl ec ep ga (fun k => some (rm k)) jt ra_6 mr_6 M_6 (by omega)) (cwV 2 hts (lw_V q731 q733 qs6 q96 q734) rfl rfl rfl (by decide +kernel) ⟨Nat.le_of_ble_eq_true rfl, Nat.le_of_ble_eq_true rfl⟩) (gP_V (va_recv hK (hR0.up hS) (ci := 3) (q0 := 0) rfl rfl) hG hS (fun q _ h => hF9 q h) ⟨rfl, (hP.sub (ws' := [((xa 7), .inl (dA 4, 8, .inr (.inr (.inr (.inr (fun k => some (rm k)))))))]) [0] rfl), (hD.sub (ws' := [((xa 7), .inl (dA 4, 8, .inr (.inr (.inr (.inr (fun k => some (rm k)))))))]) [0] (by decide) rfl).self, (hR0.to hS (fun q _ h => hF9 q h)), (RO.beside (wr := [(ra_6, .inr (0, [.ref mr_6, .long (M_6 0)])), (mr_6, .inl (dA 1, 32, .inr (.inl (fun j => M_6 (j + 1)))))]) hP hD [0] [3, 4] rfl rfl (by decide))⟩) rfl rfl hl.1 rfl (lv_room (Nat.le_of_ble_eq_true rfl)) dX1_radiusSquare_86 ⟨by first | decide | omega | (show _ ≤ (14 : Nat); omega), by first | decide | omega | (show _ ≤ (160 : Nat); omega)⟩) hP hD hS hA [0] [1, 2, 3, 4] rfl rfl (by decide) (by decide) (fun r9 u9 H locs hq hX hz hk hP hD hS => ?_)
  obtain ⟨r_7, rfl⟩ : ∃ z, z = r9 := ⟨_, rfl⟩
  subst hq
  have hP : va_P (dC, dI) vwCl [(ra_4, .inr (0, [.ref mr_4, .long (M_4 0)])), (mr_4, .inl (dA 1, 32, .inr (.inl (fun j => M_4 (j + 1))))), (ra_6, .inr (0, [.ref mr_6, .long (M_6 0)])), (mr_6, .inl (dA 1, 32, .inr (.inl (fun j => M_6 (j + 1))))), ((xa 7), .inl (dA 4, 8, .inr (.inr (.inr (.inr (va_up (fun k => some (rm k)) jt (some ra_6)))))))] H := hP
  have hD : va_D A [(ra_4, .inr (0, [.ref mr_4, .long (M_4 0)])), (mr_4, .inl (dA 1, 32, .inr (.inl (fun j => M_4 (j + 1))))), (ra_6, .inr (0, [.ref mr_6, .long (M_6 0)])), (mr_6, .inl (dA 1, 32, .inr (.inl (fun j => M_6 (j + 1))))), ((xa 7), .inl (dA 4, 8, .inr (.inr (.inr (.inr (va_up (fun k => some (rm k)) jt (some ra_6)))))))] := hD
  have e8 : rg (nI jt) = jt := rg_n (by omega)
  subst hQe
  refine vx_ret ?_
  refine W.widen (k := 14) (n := 160) (by first | decide | omega) (by first | decide | omega) ?_
  exact W.iret (v := nI (trmS M_6)) hx hb hr (fun tz ht hW => ⟨⟨_, (ra_6, mr_6, M_6), rfl, ⟨rad_ok h7jt h7ja hws e_4 (rad_f hsq e_6), rfl⟩, B1_at ht (by rw [e8]; exact hP.sub [4] rfl) (by rw [e8]; exact hD.sub [4] (by decide) rfl) (⟨hP.sub [2, 3] rfl, Or.inl ⟨fresh_of hD hAf 4 2 rfl rfl (by decide), fresh_of hD hAf 4 3 rfl rfl (by decide)⟩⟩)⟩, hS.F ht⟩) hS.2.2 dX1_radiusSquare_89
