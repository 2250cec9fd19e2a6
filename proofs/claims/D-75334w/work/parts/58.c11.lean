theorem trnS_sp {op p q r : Nat} {M : MV} : MSp (2 ^ (p + q + r)) (trnS op p q r M) := red_sp (fun j h1 h2 => if_neg (by omega))
def sgdOk (neg st op : Nat) : Bool := (List.range 6).all (fun g => (if st / 2 ^ g &&& 1 = 0 then nI 0 else if neg / 2 ^ g &&& 1 = 1 then (-1) else nI 1) == turS op g)
theorem i2l_0 : (nI 0).toInt64 = 0 := rfl
theorem i2l_1 : (nI 1).toInt64 = 1 := rfl
theorem i2l_m : ((-1 : Int32)).toInt64 = -1 := rfl
theorem sgd_at {neg st op p q r : Nat} (h : sgdOk neg st op = true) (h3 : ¬ (op = 3 ∨ op = 4 ∨ op = 5)) {M : MV} (pM : MSp (2 ^ (p + q + r)) M) {j : Nat} (hj : j < 32) : sgdF neg st M j = trnR op p q r M j := by
  have hg := List.all_eq_true.mp h (popc j) (List.mem_range.mpr (by have := popc_le5 j hj; omega))
  have hg := eq_of_beq hg
  have hI : trnI op p q r j = j := if_neg h3
  have hG : trnG op p q r j = turS op (popc j) := by
    unfold trnG; rw [if_neg (fun c => h3 (Or.inl c)), if_neg (fun c => h3 (Or.inr (Or.inl c))), if_neg (fun c => h3 (Or.inr (Or.inr c)))]
  unfold sgdF trnR
  rw [hI, hG, ← hg]
  by_cases hw : j < 2 ^ (p + q + r)
  · rw [if_pos hw]
    split
    · rw [i2l_0, Int64.zero_mul]
    · split
      · rw [i2l_m, show (-1 : Int64) = -(1 : Int64) from rfl, Int64.neg_mul, Int64.one_mul]
      · rw [i2l_1, Int64.one_mul]
  · rw [if_neg hw, pM j (by omega) hj]
    split
    · rfl
    · split <;> rfl
theorem red_ext {u : Int64} {f g : Nat → Int64} (h : ∀ j, j < 32 → f j = g j) : ∀ i, i < 33 → redS u f i = redS u g i := by
  intro i hi
  unfold redS
  rw [gA_congr 32 h]
  by_cases e : i = 0
  · rw [if_pos e, if_pos e]
  · rw [if_neg e, if_neg e, h (i - 1) (by omega)]
theorem sgd_tr {neg st op p q r : Nat} (h : sgdOk neg st op = true ∧ ¬ (op = 3 ∨ op = 4 ∨ op = 5)) (_hn : p + q + r ≤ 5) {M : MV} (pM : MSp (2 ^ (p + q + r)) M) : ∀ i, i < 33 → redS (M 0) (sgdF neg st M) i = trnS op p q r M i :=
  red_ext (fun _ hj => sgd_at h.1 h.2 pM hj)
theorem isN_iff (M : MV) : ∀ n, isNumB M n = true ↔ (M 1 ≠ 0 ∧ ∀ k, 1 ≤ k → k < n → M (k + 1) = 0)
  | 0 => by
    show decide (M 1 ≠ 0) = true ↔ _
    rw [decide_eq_true_iff]
    exact ⟨fun h => ⟨h, fun k _ h2 => absurd h2 (Nat.not_lt_zero _)⟩, fun h => h.1⟩
  | n + 1 => by
    show (if n = 0 then isNumB M n else isNumB M n && decide (M (n + 1) = 0)) = true ↔ _
    by_cases e : n = 0
    · rw [if_pos e, isN_iff M n]
      exact ⟨fun h => ⟨h.1, fun k h1 h2 => absurd h1 (by omega)⟩, fun h => ⟨h.1, fun k h1 h2 => absurd h1 (by omega)⟩⟩
    · rw [if_neg e, Bool.and_eq_true, isN_iff M n, decide_eq_true_iff]
      constructor
      · rintro ⟨⟨h1, h2⟩, h3⟩
        refine ⟨h1, fun k a b => ?_⟩
        by_cases ek : k = n
        · subst ek; exact h3
        · exact h2 k a (by omega)
      · intro h
        exact ⟨⟨h.1, fun k a b => h.2 k a (by omega)⟩, h.2 n (by omega) (by omega)⟩
theorem gr_z {M : MV} : ∀ n, (∀ k, k < n → M (k + 1) = 0) → grN M n = 0
  | 0, _ => rfl
  | n + 1, h => by
    show grN M n ||| (if M (n + 1) = 0 then 0 else 2 ^ popc n) = 0
    rw [gr_z n (fun k hk => h k (by omega)), if_pos (h n (by omega))]; rfl
theorem gr_one {M : MV} (h1 : M 1 ≠ 0) : ∀ n, (∀ k, 1 ≤ k → k < n + 1 → M (k + 1) = 0) → grN M (n + 1) = 1
  | 0, _ => by
    show 0 ||| (if M (0 + 1) = 0 then 0 else 2 ^ popc 0) = 1
    rw [if_neg h1]; rfl
  | n + 1, h => by
    show grN M (n + 1) ||| (if M (n + 1 + 1) = 0 then 0 else 2 ^ popc (n + 1)) = 1
    rw [gr_one h1 n (fun k a b => h k a (by omega)), if_pos (h (n + 1) (by omega) (by omega))]; rfl
theorem pop_0 : ∀ {j : Nat}, j < 32 → popc j = 0 → j = 0 := by
  have h : ∀ j, j < 32 → popc j = 0 → j = 0 := by decide +kernel
  exact fun {j} a b => h j a b
theorem num_gr (M : MV) : decide (grS M = 1) = isNumB M 32 := by
  rw [Bool.eq_iff_iff, decide_eq_true_iff, isN_iff]
  constructor
  · intro h
    have hz : ∀ k, 1 ≤ k → k < 32 → M (k + 1) = 0 := by
      intro k a b
      apply Decidable.byContradiction
      intro c
      have := pop_0 b (gr_hom (k := 0) h b c)
      omega
    refine ⟨fun c => ?_, hz⟩
    have h0 := gr_z (M := M) 32 (fun k hk => by
      by_cases e : k = 0
      · subst e; exact c
      · exact hz k (by omega) hk)
    rw [show grS M = 0 from h0] at h; cases h
  · intro h
    exact gr_one h.1 31 h.2
/-! operations of two -/
theorem meet_s {p q r : Nat} {M N P : MV} (e : mulS (1 + 2) p q r (trnS 3 p q r M) (trnS 3 p q r N) = some P) : cmbS 7 p q r M N = some (trnS 4 p q r P) := by
  show meetS p q r M N = _
  unfold meetS; rw [show mulS 3 p q r (trnS 3 p q r M) (trnS 3 p q r N) = some P from e]
theorem meet_n {p q r : Nat} {M N : MV} (e : mulS (1 + 2) p q r (trnS 3 p q r M) (trnS 3 p q r N) = none) : cmbS 7 p q r M N = none := by
  show meetS p q r M N = _
  unfold meetS; rw [show mulS 3 p q r (trnS 3 p q r M) (trnS 3 p q r N) = none from e]
section COM
variable {p q r : Nat} {M N P T S V : MV}
theorem com_s (e1 : mulS 2 p q r M N = some P) (e2 : mulS 2 p q r N M = some T) (e3 : addS (-1) P T = some S) (e4 : scaS 1 2 S = some V) : cmbS 8 p q r M N = some V := by
  show comS p q r M N = _
  simp only [comS, e1, e2, e3]; exact e4
theorem com_n1 (e1 : mulS 2 p q r M N = none) : cmbS 8 p q r M N = none := by
  show comS p q r M N = _
  simp only [comS, e1]
theorem com_n2 (e1 : mulS 2 p q r M N = some P) (e2 : mulS 2 p q r N M = none) : cmbS 8 p q r M N = none := by
  show comS p q r M N = _
  simp only [comS, e1, e2]
theorem com_n3 (e1 : mulS 2 p q r M N = some P) (e2 : mulS 2 p q r N M = some T) (e3 : addS (-1) P T = none) : cmbS 8 p q r M N = none := by
  show comS p q r M N = _
  simp only [comS, e1, e2, e3]
theorem com_n4 (e1 : mulS 2 p q r M N = some P) (e2 : mulS 2 p q r N M = some T) (e3 : addS (-1) P T = some S) (e4 : scaS 1 2 S = none) : cmbS 8 p q r M N = none := by
  show comS p q r M N = _
  simp only [comS, e1, e2, e3]; exact e4
end COM
/-! operations of one -/
def oneS (k p q r : Nat) (M : MV) : CO := if k = 9 then invS p q r M else if k = 5 ∧ 0 < r then (nI 4, none) else (nI 0, some (trnS k p q r M))
theorem one_9 {p q r : Nat} {M : MV} {x : CO} (h : invS p q r M = x) : oneS 9 p q r M = x := h
theorem one_5x {p q r : Nat} {M : MV} (h : ¬ r = 0) : oneS 5 p q r M = (nI 4, none) := by
  unfold oneS; rw [if_neg (by decide), if_pos ⟨rfl, by omega⟩]
theorem one_5 {p q r : Nat} {M C : MV} (h : r = 0) (e : C = trnS 5 p q r M) : oneS 5 p q r M = (nI 0, some C) := by
  unfold oneS; rw [if_neg (by decide), if_neg (by omega), e]
section INV
variable {p q r : Nat} {M S C : MV}
theorem inv_s (e1 : mulS 2 p q r M (trnS 0 p q r M) = some S) (h : isNumB S 32 = true) (e2 : scaS (S 0) (S 1) (trnS 0 p q r M) = some C) : invS p q r M = (nI 0, some C) := by
  simp only [invS, sqS, revS, e1, h, e2, optC]; rfl
theorem inv_n (e1 : mulS 2 p q r M (trnS 0 p q r M) = some S) (h : isNumB S 32 = false) : invS p q r M = (nI 4, none) := by
  simp only [invS, sqS, revS, e1, h]; rfl
theorem inv_x1 (e1 : mulS 2 p q r M (trnS 0 p q r M) = none) : invS p q r M = (nI 3, none) := by
  simp only [invS, sqS, revS, e1]
theorem inv_x2 (e1 : mulS 2 p q r M (trnS 0 p q r M) = some S) (h : isNumB S 32 = true) (e2 : scaS (S 0) (S 1) (trnS 0 p q r M) = none) : invS p q r M = (nI 3, none) := by
  simp only [invS, sqS, revS, e1, h, e2, optC]; rfl
end INV
/-! the dual: times the pseudoscalar and its square -/
def basF (b : Nat) (x : Int64) : MV := fun i => if i = 0 then 1 else if i - 1 = b then x else 0
theorem gA_1 {u : Int64} (hu : aN u = 1) (f : Nat → Int64) : ∀ n, gA u f n = 1
  | 0 => hu
  | n + 1 => by
    show Nat.gcd (gA u f n) _ = 1
    rw [gA_1 hu f n, Nat.gcd_one_left]
theorem div_1 (x : Int64) : x / lN 1 = x := Int64.div_one
theorem fit_1 {f : Nat → Int64} (hf : ∀ j, j < 32 → sm8 (f j)) : fitS 1 f = some (fun i => if i = 0 then 1 else f (i - 1)) := by
  rw [fitS_t (fit_small (by decide) (by decide) hf)]
  congr 1
  funext i
  unfold redS
  rw [gA_1 (by decide) f 32, div_1, div_1]
theorem of_bas {b : Nat} (_hb : b < 32) : ofS b 1 1 = some (basF b 1) := by
  show fitS (1 * sgL 1) (fun j => vp_updL (fun _ => 0) b 1 j * sgL 1) = _
  rw [show sgL 1 = 1 from rfl, Int64.mul_one]
  have hf : (fun j => vp_updL (fun _ => 0) b 1 j * 1) = fun j => if j = b then (1 : Int64) else 0 := by
    funext j
    rw [Int64.mul_one]
    by_cases e : j = b
    · subst e; rw [pk_uLs, if_pos rfl]
    · rw [pk_uLn e, if_neg e]
  rw [hf, fit_1 (fun j _ => by split <;> exact ⟨by decide, by decide⟩)]
  rfl
theorem sg_sm8 {v : Int32} (h : Sg v) : sm8 v.toInt64 := by
  have := h.b
  unfold sm8; omega
theorem sca_bas {b : Nat} {s : Int32} (hs : Sg s) : scaS s.toInt64 1 (basF b 1) = some (basF b s.toInt64) := by
  show fitS (1 * 1 * sgL 1) (fun j => basF b 1 (j + 1) * s.toInt64 * sgL 1) = _
  rw [show sgL 1 = 1 from rfl, Int64.mul_one, Int64.mul_one]
  have hf : (fun j => basF b 1 (j + 1) * s.toInt64 * 1) = fun j => if j = b then s.toInt64 else 0 := by
    funext j
    rw [Int64.mul_one]
    show (if j + 1 = 0 then (1 : Int64) else if j + 1 - 1 = b then 1 else 0) * s.toInt64 = _
    rw [if_neg (by omega), Nat.add_sub_cancel]
    by_cases e : j = b
    · rw [if_pos e, if_pos e, Int64.one_mul]
    · rw [if_neg e, if_neg e, Int64.zero_mul]
  rw [hf, fit_1 (fun j _ => by
    split
    · exact sg_sm8 hs
    · exact ⟨by decide, by decide⟩)]
  rfl
theorem sg_mul_l {x y : Int32} (hx : Sg x) (hy : Sg y) : (x * y).toInt64 = x.toInt64 * y.toInt64 := by
  rcases hx with rfl | rfl | rfl <;> rcases hy with rfl | rfl | rfl <;> decide
theorem xor_eq {a j b : Nat} : a ^^^ j = b ↔ a = b ^^^ j := by
  constructor
  · intro h; rw [← h, Nat.xor_assoc, Nat.xor_self, Nat.xor_zero]
  · intro h; rw [h, Nat.xor_assoc, Nat.xor_self, Nat.xor_zero]
theorem mul_bas {p q r : Nat} (hn : p + q + r ≤ 5) {M : MV} {s : Int32} (_hs : Sg s) (j : Nat) : ∀ n, n ≤ 2 ^ (p + q + r) → mulA 2 p q r M (basF (2 ^ (p + q + r) - 1) s.toInt64) n j = if (2 ^ (p + q + r) - 1) ^^^ j < n then (sgS p q r ((2 ^ (p + q + r) - 1) ^^^ j) (2 ^ (p + q + r) - 1)).toInt64 * M (((2 ^ (p + q + r) - 1) ^^^ j) + 1) * s.toInt64 else 0
  | 0, _ => by rw [if_neg (Nat.not_lt_zero _)]; rfl
  | a + 1, ha => by
    show mulA 2 p q r M _ a j + (if a ^^^ j < 2 ^ (p + q + r) then mt 2 p q r M _ a j else 0) = _
    rw [mul_bas hn _hs j a (by omega)]
    have hW := pow5 hn
    have hmt : mt 2 p q r M (basF (2 ^ (p + q + r) - 1) s.toInt64) a j = (sgS p q r a (a ^^^ j)).toInt64 * M (a + 1) * basF (2 ^ (p + q + r) - 1) s.toInt64 ((a ^^^ j) + 1) := if_pos rfl
    rw [hmt]
    have hb : basF (2 ^ (p + q + r) - 1) s.toInt64 ((a ^^^ j) + 1) = if a ^^^ j = 2 ^ (p + q + r) - 1 then s.toInt64 else 0 := by
      show (if (a ^^^ j) + 1 = 0 then (1 : Int64) else if (a ^^^ j) + 1 - 1 = _ then s.toInt64 else 0) = _
      rw [if_neg (by omega), Nat.add_sub_cancel]
    rw [hb]
    by_cases e : a ^^^ j = 2 ^ (p + q + r) - 1
    · have e2 := xor_eq.mp e
      have g1 : ¬ (2 ^ (p + q + r) - 1) ^^^ j < a := by rw [← e2]; exact Nat.lt_irrefl _
      have g2 : (2 ^ (p + q + r) - 1) ^^^ j < a + 1 := by rw [← e2]; exact Nat.lt_succ_self _
      rw [if_neg g1, if_pos g2, Int64.zero_add, if_pos e, if_pos (show a ^^^ j < 2 ^ (p + q + r) by rw [e]; omega), e, ← e2]
    · have e2 : ¬ a = (2 ^ (p + q + r) - 1) ^^^ j := fun c => e (xor_eq.mpr c)
      rw [if_neg e, Int64.mul_zero]
      have e3 : (if a ^^^ j < 2 ^ (p + q + r) then (0 : Int64) else 0) = 0 := by split <;> rfl
      rw [e3, Int64.add_zero]
      by_cases h : (2 ^ (p + q + r) - 1) ^^^ j < a
      · rw [if_pos h, if_pos (by omega)]
      · rw [if_neg h, if_neg (by omega)]
theorem dual_R {p q r : Nat} (hn : p + q + r ≤ 5) {M : MV} : mulR 2 p q r M (basF (2 ^ (p + q + r) - 1) (sgS p q r (2 ^ (p + q + r) - 1) (2 ^ (p + q + r) - 1)).toInt64) = trnR 5 p q r M := by
  funext j
  unfold mulR
  rw [mul_bas hn (sgS_sg _ _ _ _ _) j _ (Nat.le_refl _)]
  show _ = if j < 2 ^ (p + q + r) then (sgS p q r (fullN p q r) (fullN p q r) * sgS p q r (fullN p q r ^^^ j) (fullN p q r)).toInt64 * M ((fullN p q r ^^^ j) + 1) else 0
  have hW := pow5 hn
  show (if fullN p q r ^^^ j < 2 ^ (p + q + r) then (sgS p q r (fullN p q r ^^^ j) (fullN p q r)).toInt64 * M ((fullN p q r ^^^ j) + 1) * (sgS p q r (fullN p q r) (fullN p q r)).toInt64 else 0) = _
  by_cases h : j < 2 ^ (p + q + r)
  · rw [if_pos h, if_pos (full_xor hn h), sg_mul_l (sgS_sg _ _ _ _ _) (sgS_sg _ _ _ _ _)]
    show (sgS p q r (fullN p q r ^^^ j) (fullN p q r)).toInt64 * M ((fullN p q r ^^^ j) + 1) * (sgS p q r (fullN p q r) (fullN p q r)).toInt64 = _
    rw [Int64.mul_comm, Int64.mul_assoc]
  · rw [if_neg h, if_neg]
    intro c
    have h2 := Nat.xor_lt_two_pow c (show fullN p q r < 2 ^ (p + q + r) by unfold fullN; omega)
    rw [Nat.xor_comm, ← Nat.xor_assoc, Nat.xor_self, Nat.zero_xor] at h2
    exact h h2
section DUAL
variable {p q r : Nat} {M A B C : MV}
theorem dual_m (hn : p + q + r ≤ 5) (sM : MSm M) : mulS 2 p q r M (basF (2 ^ (p + q + r) - 1) (sgS p q r (2 ^ (p + q + r) - 1) (2 ^ (p + q + r) - 1)).toInt64) = some (trnS 5 p q r M) := by
  unfold mulS
  rw [dual_R hn, show M 0 * basF (2 ^ (p + q + r) - 1) (sgS p q r (2 ^ (p + q + r) - 1) (2 ^ (p + q + r) - 1)).toInt64 0 = M 0 from Int64.mul_one _]
  exact fitS_t (fit_small sM.1 sM.2.1 (fun j _ => trnR_bd hn sM j))
theorem dual_AB (e1 : ofS (2 ^ (p + q + r) - 1) 1 1 = some A) (e2 : scaS (sgS p q r (2 ^ (p + q + r) - 1) (2 ^ (p + q + r) - 1)).toInt64 1 A = some B) (hb : 2 ^ (p + q + r) - 1 < 32) : B = basF (2 ^ (p + q + r) - 1) (sgS p q r (2 ^ (p + q + r) - 1) (2 ^ (p + q + r) - 1)).toInt64 := by
  rw [of_bas hb] at e1
  cases e1
  rw [sca_bas (sgS_sg _ _ _ _ _)] at e2
  exact (Option.some.inj e2).symm
theorem dual_s (hn : p + q + r ≤ 5) (sM : MSm M) (e1 : ofS (2 ^ (p + q + r) - 1) 1 1 = some A) (e2 : scaS (sgS p q r (2 ^ (p + q + r) - 1) (2 ^ (p + q + r) - 1)).toInt64 1 A = some B) (e3 : mulS 2 p q r M B = some C) : C = trnS 5 p q r M := by
  have hW := pow5 hn
  rw [dual_AB e1 e2 (by omega), dual_m hn sM] at e3
  exact (Option.some.inj e3).symm
theorem dual_n1 (hb : 2 ^ (p + q + r) - 1 < 32) (e1 : ofS (2 ^ (p + q + r) - 1) 1 1 = some A) (e2 : scaS (sgS p q r (2 ^ (p + q + r) - 1) (2 ^ (p + q + r) - 1)).toInt64 1 A = none) : False := by
  rw [of_bas hb] at e1
  cases e1
  rw [sca_bas (sgS_sg _ _ _ _ _)] at e2
  cases e2
theorem dual_n2 (hn : p + q + r ≤ 5) (sM : MSm M) (e1 : ofS (2 ^ (p + q + r) - 1) 1 1 = some A) (e2 : scaS (sgS p q r (2 ^ (p + q + r) - 1) (2 ^ (p + q + r) - 1)).toInt64 1 A = some B) (e3 : mulS 2 p q r M B = none) : False := by
  have hW := pow5 hn
  rw [dual_AB e1 e2 (by omega), dual_m hn sM] at e3
  cases e3
end DUAL
set_option maxHeartbeats 4000000 in
theorem x1_reverse {l : Launch} {dC : Nat → ClassId} {dI : Nat → Nat → Nat} {dA : Nat → ClassId} {s0 : State} {b0 : Addr} (Z : Z0 l dC dI dA s0 b0) (A : Nat → Prop) (sz : Nat) (hA : ∀ q : Nat, sz ≤ q → A q) {σ : Nat → Nat} (Y : SS (dC, dI) dA σ s0) (p0 q0 r0 : Nat) (ma mr : Nat) (M : MV) (hn : p0 + q0 + r0 ≤ 5) (sM : MSm M) (pM : MSp (2 ^ (p0 + q0 + r0)) M) : Met l yX1_reverse (ws_ yX1_reverse cX1_reverse 1 (some (.object "BladeAlgebra$Multi"))) ({ frames := 5, cells := 2, slots := 34, locals := 300 } : Room) (gP [.ref ma] s0 A (fun H => H.size = sz ∧ RO A (dC, dI) [(ma, .inr (0, [.ref mr, .long (M 0)])), (mr, .inl (dA 1, 32, .inr (.inl (fun j => M (j + 1)))))] H)) (va_Qr (S := Nat) (fun _ => True) (B1r (dC, dI) A (fun u q => MA dA q u (trnS 0 p0 q0 r0 M)) (fun _ _ _ => True)) A) 2 34 A := by
  refine Met.ofW (cc := cX1_reverse) (maxL := 1) (ret := (some (.object "BladeAlgebra$Multi"))) (by decide) rfl ?_
  intro p e s m args below meth c s₁ B hml hv
  obtain ⟨hav, hG, hsz, hR0⟩ := hv
  have hx := B.exec
  have hb := B.bytes
  have hr := B.returns
  have hts := atoms_spec (ws := (ws_ yX1_reverse cX1_reverse 1 (some (.object "BladeAlgebra$Multi")))) B.pre
  have hts : ∀ w ∈ lw_all, w.before _ s = true := fun w h => hts w (List.mem_cons_of_mem _ h)
  have hown : s.vm.findClass RX1 = some m.cls := findClass_of_methodNamed B.named
  have hlocks := B.notSynchronized
  have hK := hG.K Z
  subst hsz
  have hS : va_S A s.heap s.heap [] := va_S.rf
  have hP : va_P (dC, dI) vwCl [] s.heap := fun k q h => by simp at h
  have hD : va_D A [] := ⟨fun i j p q h => by simp at h, fun k q h => by simp at h⟩
  have hl := lv_entry ([.ref ma]) (n := 1) (Nat.le_of_ble_eq_true rfl)
  rw [show entryFrame m args 1 = entryFrame m ([.ref ma] : List Value).toArray 1 from by rw [hav], lg_entry_eq]
  generalize (lg_sl ([.ref ma]) ++ List.replicate (1 - (lg_sl ([.ref ma])).length) Slot.unset).toArray = ls at hl ⊢
  have hl : lv_has ls 1 [(0, .ref ma)] := hl
  generalize hQe : MQ below _ _ s _ _ _ = Q
  change W p l e ({ frames := 5, cells := 2, slots := 34, locals := 300 } : Room) s m args below meth c s.heap [] 0 0 Q (F0 m 0 ls [])
  refine lv_aload_n hx hb dX1_reverse_0 rfl (lv_at hl 0 rfl) ?_
  refine lv_bipush (v := nI 12) hx hb dX1_reverse_1 (by decide) ?_
  refine lv_bipush (v := nI 63) hx hb dX1_reverse_3 (by decide) ?_
  obtain ⟨gr, Yg⟩ : ∃ g, SG (dC, dI) dA g s0 := ⟨_, SS.gr Y⟩
  have hF9 := va_free (wc := []) hD hS (fun q h => hA q h) [] rfl
  refine c_r (wr := []) (va_runV (As := [.int (nI 12), .int (nI 63)]) (rest := []) ⟨hx, hb, hml, hown, hts⟩ (x6_signed Z (va_A [] s.heap.size) s.heap.size (fun q h => Or.inr h) gr Yg ma mr M 12 63 sM (by decide) (by decide)) (cwV 2 hts (lw_V q756 q757 q758 q102 q759) rfl rfl rfl (by decide +kernel) ⟨Nat.le_of_ble_eq_true rfl, Nat.le_of_ble_eq_true rfl⟩) (gP_V (va_recv hK (hR0.up hS) (ci := 0) (q0 := 0) rfl rfl) hG hS (fun q _ h => hF9 q h) ⟨rfl, (hR0.to hS (fun q _ h => hF9 q h))⟩) rfl rfl hl.1 rfl (lv_room (Nat.le_of_ble_eq_true rfl)) dX1_reverse_5 ⟨by first | decide | omega | (show _ ≤ (2 : Nat); omega), by first | decide | omega | (show _ ≤ (34 : Nat); omega)⟩) hP hD hS hA [] [] rfl rfl (by decide) (by decide) (fun u9 ra9 H locs hq hX hz hk hP hD hS => ?_)
  obtain ⟨ra_1, rfl⟩ : ∃ z, z = ra9 := ⟨_, rfl⟩
  obtain ⟨mr_1, rfl⟩ : ∃ z, z = u9 := ⟨_, rfl⟩
  have hP : va_P (dC, dI) vwCl [(ra_1, .inr (0, [.ref mr_1, .long ((redS (M 0) (sgdF 12 63 M)) 0)])), (mr_1, .inl (dA 1, 32, .inr (.inl (fun j => (redS (M 0) (sgdF 12 63 M)) (j + 1)))))] H := hP
  have hD : va_D A [(ra_1, .inr (0, [.ref mr_1, .long ((redS (M 0) (sgdF 12 63 M)) 0)])), (mr_1, .inl (dA 1, 32, .inr (.inl (fun j => (redS (M 0) (sgdF 12 63 M)) (j + 1)))))] := hD
  have hM9 : ∀ i, i < 33 → (redS (M 0) (sgdF 12 63 M)) i = (trnS 0 p0 q0 r0 M) i := sgd_tr (by decide) hn pM
  have e9 : ((redS (M 0) (sgdF 12 63 M)) 0) = ((trnS 0 p0 q0 r0 M) 0) := hM9 0 (by decide)
  rw [e9] at hP hD; clear e9
  have hP := P_L hP 1 (fun j => (trnS 0 p0 q0 r0 M) (j + 1)) rfl (fun j hj => hM9 (j + 1) (by omega))
  have hD := va_D.set (e := .inl (dA 1, 32, .inr (.inl (fun j => (trnS 0 p0 q0 r0 M) (j + 1))))) hD (p := 1) rfl
  have hP : va_P (dC, dI) vwCl [(ra_1, .inr (0, [.ref mr_1, .long ((trnS 0 p0 q0 r0 M) 0)])), (mr_1, .inl (dA 1, 32, .inr (.inl (fun j => (trnS 0 p0 q0 r0 M) (j + 1)))))] H := hP
  have hD : va_D A [(ra_1, .inr (0, [.ref mr_1, .long ((trnS 0 p0 q0 r0 M) 0)])), (mr_1, .inl (dA 1, 32, .inr (.inl (fun j => (trnS 0 p0 q0 r0 M) (j + 1)))))] := hD
  clear hM9
  subst hQe
  refine W.widen (k := 2) (n := 34) (by first | decide | omega) (by first | decide | omega) ?_
  exact W.aret (v := .ref ra_1) hx hb hr (Or.inl ⟨_, rfl⟩) (Or.inr ⟨_, rfl⟩) (fun tz ht hW => ⟨⟨mr_1, ra_1, rfl, trivial, B1r_at ht (hP.sub [0, 1] rfl) (hD.sub [0, 1] (by decide) rfl) trivial⟩, hS.F ht⟩) hS.2.2 dX1_reverse_8
set_option maxHeartbeats 4000000 in
theorem x1_by {l : Launch} {dC : Nat → ClassId} {dI : Nat → Nat → Nat} {dA : Nat → ClassId} {s0 : State} {b0 : Addr} (Z : Z0 l dC dI dA s0 b0) (A : Nat → Prop) (sz : Nat) (hA : ∀ q : Nat, sz ≤ q → A q) {σ : Nat → Nat} (Y : SS (dC, dI) dA σ s0) (ma mr : Nat) (M : MV) (mb nr : Nat) (N : MV) (sM : MSm M) (sN : MSm N) (hn0 : N 1 ≠ 0) : vx_Met l yX1_by (ws_ yX1_by cX1_by 2 (some (.object "BladeAlgebra$Multi"))) ({ frames := 7, cells := 2, slots := 38, locals := 420 } : Room) (gP [.ref ma, .ref mb] s0 A (fun H => H.size = sz ∧ RO A (dC, dI) [(ma, .inr (0, [.ref mr, .long (M 0)])), (mr, .inl (dA 1, 32, .inr (.inl (fun j => M (j + 1)))))] H ∧ RO A (dC, dI) [(mb, .inr (0, [.ref nr, .long (N 0)])), (nr, .inl (dA 1, 32, .inr (.inl (fun j => N (j + 1)))))] H)) (va_Qr (S := Nat × MV) (fun u => scaS (N 0) (N 1) M = some u.2) (B1r (dC, dI) A (fun u q => MA dA q u.1 u.2) (fun _ _ _ => True)) A) (vx_X (S := Unit) (fun _ => scaS (N 0) (N 1) M = none) (fun _ E _ _ => E = "BladeAlgebra$Unfit") A) 2 38 A := by
  refine vx_ofW (cc := cX1_by) (maxL := 2) (ret := (some (.object "BladeAlgebra$Multi"))) (by decide) rfl ?_
  intro p e s m args below meth c s₁ B hml hnoH hv
  obtain ⟨hav, hG, hsz, hR0, hR1⟩ := hv
  have hx := B.exec
  have hb := B.bytes
  have hr := B.returns
  have hts := atoms_spec (ws := (ws_ yX1_by cX1_by 2 (some (.object "BladeAlgebra$Multi")))) B.pre
  have hts : ∀ w ∈ lw_all, w.before _ s = true := fun w h => hts w (List.mem_cons_of_mem _ h)
  have hown : s.vm.findClass RX1 = some m.cls := findClass_of_methodNamed B.named
  have hlocks := B.notSynchronized
  have hK := hG.K Z
  subst hsz
  have hS : va_S A s.heap s.heap [] := va_S.rf
  have hP : va_P (dC, dI) vwCl [] s.heap := fun k q h => by simp at h
  have hD : va_D A [] := ⟨fun i j p q h => by simp at h, fun k q h => by simp at h⟩
  have hl := lv_entry ([.ref ma, .ref mb]) (n := 2) (Nat.le_of_ble_eq_true rfl)
  rw [show entryFrame m args 2 = entryFrame m ([.ref ma, .ref mb] : List Value).toArray 2 from by rw [hav], lg_entry_eq]
  generalize (lg_sl ([.ref ma, .ref mb]) ++ List.replicate (2 - (lg_sl ([.ref ma, .ref mb])).length) Slot.unset).toArray = ls at hl ⊢
  have hl : lv_has ls 2 [(0, .ref ma), (1, .ref mb)] := hl
  generalize hQe : vx_MQ below _ _ _ s _ _ _ = Q
  change W p l e ({ frames := 7, cells := 2, slots := 38, locals := 420 } : Room) s m args below meth c s.heap [] 0 0 Q (F0 m 0 ls [])
  refine lv_aload_n hx hb dX1_by_0 rfl (lv_at hl 0 rfl) ?_
  refine lv_aload_n hx hb dX1_by_1 rfl (lv_at hl 1 rfl) ?_
  refine va_getN (D := (dC, dI)) (ci := 0) (v := .long (N 0)) (C := RX6) (T := TX6) (N := 2) hx hb hts in_X6 hown hK (hR1.up hS) 0 rfl rfl 1 (by decide) (((va_Nw.warmF hG.1 (va_Nw.of rfl (Z.2.1 _ q556)))).use rfl) (fun _ h9 => h9) rfl dX1_by_2 ?_
  refine lv_aload_n hx hb dX1_by_5 rfl (lv_at hl 1 rfl) ?_
  refine va_getN (D := (dC, dI)) (ci := 0) (v := .ref nr) (C := RX6) (T := TX6) (N := 2) hx hb hts in_X6 hown hK (hR1.up hS) 0 rfl rfl 0 (by decide) (((va_Nw.warmF hG.1 (va_Nw.of rfl (Z.2.1 _ q552)))).use rfl) (fun _ h9 => h9) rfl dX1_by_6 ?_
  refine lv_iconst (v := nI 0) hx hb dX1_by_9 (by decide) ?_
  refine a_lald hx hb hK (hR1.up hS) 1 1 rfl rfl (by omega) (by omega) dX1_by_10 ?_
  refine e_l (y := N 1) (rfl) ?_
  have hF9 := va_free (wc := []) hD hS (fun q h => hA q h) [] rfl
  refine x_r (wc := []) (wr := []) (vx_runV (As := [.long (N 0), .long (N 1)]) (rest := []) ⟨hx, hb, hml, hown, hts⟩ (x6_times Z (va_A [] s.heap.size) s.heap.size (fun q h => Or.inr h) Y ma mr M (N 0) (N 1) sN.u (sN.c (j := 0) (by decide)) hn0 sM) (cwV 2 hts (lw_V q797 q728 q729 q102 q730) rfl rfl rfl (by decide +kernel) ⟨Nat.le_of_ble_eq_true rfl, Nat.le_of_ble_eq_true rfl⟩) (gP_V (va_recv hK (hR0.up hS) (ci := 0) (q0 := 0) rfl rfl) hG hS (fun q _ h => hF9 q h) ⟨rfl, (hR0.to hS (fun q _ h => hF9 q h))⟩) rfl rfl hl.1 rfl (lv_room (Nat.le_of_ble_eq_true rfl)) dX1_by_11 ⟨by first | decide | omega | (show _ ≤ (2 : Nat); omega), by first | decide | omega | (show _ ≤ (38 : Nat); omega)⟩) hP hD hS hA [] [] rfl rfl (by decide) (by decide) (fun E ce q9 u9 t9 H locs ht9 hp9 hb9 hz hP hS h1 h2 h3 => ?_) (fun u9 ra9 H locs hq hX hz hk hP hD hS => ?_)
  · have hD := hD.sub (ws' := []) [] (by decide) rfl
    have hP : va_P (dC, dI) vwCl [] H := hP
    have hD : va_D A [] := hD
    subst hb9
    subst hQe
    exact vx_out (fun x h => (hnoH x h).elim) hlocks h1 h2 h3 (fun t10 e10 _ => ⟨(), hp9, rfl, hS.F e10⟩) hS.2.2 (by first | decide | omega) (by first | decide | omega)
  obtain ⟨ra_1, rfl⟩ : ∃ z, z = ra9 := ⟨_, rfl⟩
  obtain ⟨mr_1, M_1⟩ := u9
  have e_1 := hq
  have sm_1 : MSm M_1 := scaS_sm (sN.c (j := 0) (by decide)) hn0 sM e_1
  clear hq
  have hP : va_P (dC, dI) vwCl [(ra_1, .inr (0, [.ref mr_1, .long (M_1 0)])), (mr_1, .inl (dA 1, 32, .inr (.inl (fun j => M_1 (j + 1)))))] H := hP
  have hD : va_D A [(ra_1, .inr (0, [.ref mr_1, .long (M_1 0)])), (mr_1, .inl (dA 1, 32, .inr (.inl (fun j => M_1 (j + 1)))))] := hD
  subst hQe
  refine vx_ret ?_
  refine W.widen (k := 2) (n := 38) (by first | decide | omega) (by first | decide | omega) ?_
  exact W.aret (v := .ref ra_1) hx hb hr (Or.inl ⟨_, rfl⟩) (Or.inr ⟨_, rfl⟩) (fun tz ht hW => ⟨⟨(mr_1, M_1), ra_1, rfl, e_1, B1r_at ht (hP.sub [0, 1] rfl) (hD.sub [0, 1] (by decide) rfl) trivial⟩, hS.F ht⟩) hS.2.2 dX1_by_14
set_option maxHeartbeats 4000000 in
theorem xt0 {l : Launch} {dC : Nat → ClassId} {dI : Nat → Nat → Nat} {dA : Nat → ClassId} {s0 : State} {b0 : Addr} (Z : Z0 l dC dI dA s0 b0) (A : Nat → Prop) (sz : Nat) (hA : ∀ q : Nat, sz ≤ q → A q) {σ : Nat → Nat} (Y : SS (dC, dI) dA σ s0) (ao : Nat) (ga sg : Nat) (sr : Nat → Nat) (p0 q0 r0 : Nat) (ma mr : Nat) (M : MV) (mb nr : Nat) (N : MV) (sM : MSm M) (sN : MSm N) : vx_Met l yX18_of (ws_ yX18_of cX18_of 4 (some (.object "BladeAlgebra$Multi"))) ({ frames := 9, cells := 8, slots := 152, locals := 540 } : Room) (gP [.ref ao, .ref ga, .ref ma, .ref mb] s0 A (fun H => H.size = sz ∧ RO A (dC, dI) [(ma, .inr (0, [.ref mr, .long (M 0)])), (mr, .inl (dA 1, 32, .inr (.inl (fun j => M (j + 1)))))] H ∧ RO A (dC, dI) [(mb, .inr (0, [.ref nr, .long (N 0)])), (nr, .inl (dA 1, 32, .inr (.inl (fun j => N (j + 1)))))] H ∧ AG A (dC, dI) dA ga sg sr p0 q0 r0 H)) (va_Qr (S := Nat × MV) (fun u => cmbS 0 p0 q0 r0 M N = some u.2) (B1r (dC, dI) A (fun u q => MA dA q u.1 u.2) (fun _ _ _ => True)) A) (vx_X (S := Unit) (fun _ => cmbS 0 p0 q0 r0 M N = none) (fun _ E _ _ => E = "BladeAlgebra$Unfit") A) 8 152 A := by
  refine vx_ofW (cc := cX18_of) (maxL := 4) (ret := (some (.object "BladeAlgebra$Multi"))) (by decide) rfl ?_
  intro p e s m args below meth c s₁ B hml hnoH hv
  obtain ⟨hav, hG, hsz, hR0, hR1, hAG⟩ := hv
  have hx := B.exec
  have hb := B.bytes
  have hr := B.returns
  have hts := atoms_spec (ws := (ws_ yX18_of cX18_of 4 (some (.object "BladeAlgebra$Multi")))) B.pre
  have hts : ∀ w ∈ lw_all, w.before _ s = true := fun w h => hts w (List.mem_cons_of_mem _ h)
  have hown : s.vm.findClass RX18 = some m.cls := findClass_of_methodNamed B.named
  have hlocks := B.notSynchronized
  have hK := hG.K Z
  subst hsz
  have hS : va_S A s.heap s.heap [] := va_S.rf
  have hP : va_P (dC, dI) vwCl [] s.heap := fun k q h => by simp at h
  have hD : va_D A [] := ⟨fun i j p q h => by simp at h, fun k q h => by simp at h⟩
  have hl := lv_entry ([.ref ao, .ref ga, .ref ma, .ref mb]) (n := 4) (Nat.le_of_ble_eq_true rfl)
  rw [show entryFrame m args 4 = entryFrame m ([.ref ao, .ref ga, .ref ma, .ref mb] : List Value).toArray 4 from by rw [hav], lg_entry_eq]
  generalize (lg_sl ([.ref ao, .ref ga, .ref ma, .ref mb]) ++ List.replicate (4 - (lg_sl ([.ref ao, .ref ga, .ref ma, .ref mb])).length) Slot.unset).toArray = ls at hl ⊢
  have hl : lv_has ls 4 [(0, .ref ao), (1, .ref ga), (2, .ref ma), (3, .ref mb)] := hl
  generalize hQe : vx_MQ below _ _ _ s _ _ _ = Q
  change W p l e ({ frames := 9, cells := 8, slots := 152, locals := 540 } : Room) s m args below meth c s.heap [] 0 0 Q (F0 m 0 ls [])
  have hn := hAG.1
  have h5 := pow5 hn
  have hR2 := hAG.2.1
  refine lv_aload_n hx hb dX18_of_0 rfl (lv_at hl 2 rfl) ?_
  refine lv_aload_n hx hb dX18_of_1 rfl (lv_at hl 3 rfl) ?_
  refine lv_iconst (v := nI 1) hx hb dX18_of_2 (by decide) ?_
  have hF9 := va_free (wc := []) hD hS (fun q h => hA q h) [] rfl
  refine x_r (wc := []) (wr := []) (vx_runV (As := [.ref mb, .int (nI 1)]) (rest := []) ⟨hx, hb, hml, hown, hts⟩ (x6_plus Z (va_A [] s.heap.size) s.heap.size (fun q h => Or.inr h) Y ma mr M mb nr N (nI 1) (Or.inl rfl) sM sN) (cwV 2 hts (lw_V q640 q641 q642 q102 q643) rfl rfl rfl (by decide +kernel) ⟨Nat.le_of_ble_eq_true rfl, Nat.le_of_ble_eq_true rfl⟩) (gP_V (va_recv hK (hR0.up hS) (ci := 0) (q0 := 0) rfl rfl) hG hS (fun q _ h => hF9 q h) ⟨rfl, (hR0.to hS (fun q _ h => hF9 q h)), (hR1.to hS (fun q _ h => hF9 q h))⟩) rfl rfl hl.1 rfl (lv_room (Nat.le_of_ble_eq_true rfl)) dX18_of_3 ⟨by first | decide | omega | (show _ ≤ (8 : Nat); omega), by first | decide | omega | (show _ ≤ (152 : Nat); omega)⟩) hP hD hS hA [] [] rfl rfl (by decide) (by decide) (fun E ce q9 u9 t9 H locs ht9 hp9 hb9 hz hP hS h1 h2 h3 => ?_) (fun u9 ra9 H locs hq hX hz hk hP hD hS => ?_)
  · have hD := hD.sub (ws' := []) [] (by decide) rfl
    have hP : va_P (dC, dI) vwCl [] H := hP
    have hD : va_D A [] := hD
    subst hb9
    subst hQe
    exact vx_out (fun x h => (hnoH x h).elim) hlocks h1 h2 h3 (fun t10 e10 _ => ⟨(), hp9, rfl, hS.F e10⟩) hS.2.2 (by first | decide | omega) (by first | decide | omega)
  obtain ⟨ra_1, rfl⟩ : ∃ z, z = ra9 := ⟨_, rfl⟩
  obtain ⟨mr_1, M_1⟩ := u9
  have e_1 := hq
  have sm_1 : MSm M_1 := addS_sm sM sN e_1
  clear hq
  have hP : va_P (dC, dI) vwCl [(ra_1, .inr (0, [.ref mr_1, .long (M_1 0)])), (mr_1, .inl (dA 1, 32, .inr (.inl (fun j => M_1 (j + 1)))))] H := hP
  have hD : va_D A [(ra_1, .inr (0, [.ref mr_1, .long (M_1 0)])), (mr_1, .inl (dA 1, 32, .inr (.inl (fun j => M_1 (j + 1)))))] := hD
  subst hQe
  refine vx_ret ?_
  refine W.widen (k := 8) (n := 152) (by first | decide | omega) (by first | decide | omega) ?_
  exact W.aret (v := .ref ra_1) hx hb hr (Or.inl ⟨_, rfl⟩) (Or.inr ⟨_, rfl⟩) (fun tz ht hW => ⟨⟨(mr_1, M_1), ra_1, rfl, e_1, B1r_at ht (hP.sub [0, 1] rfl) (hD.sub [0, 1] (by decide) rfl) trivial⟩, hS.F ht⟩) hS.2.2 dX18_of_6
set_option maxHeartbeats 4000000 in
theorem xt1 {l : Launch} {dC : Nat → ClassId} {dI : Nat → Nat → Nat} {dA : Nat → ClassId} {s0 : State} {b0 : Addr} (Z : Z0 l dC dI dA s0 b0) (A : Nat → Prop) (sz : Nat) (hA : ∀ q : Nat, sz ≤ q → A q) {σ : Nat → Nat} (Y : SS (dC, dI) dA σ s0) (ao : Nat) (ga sg : Nat) (sr : Nat → Nat) (p0 q0 r0 : Nat) (ma mr : Nat) (M : MV) (mb nr : Nat) (N : MV) (sM : MSm M) (sN : MSm N) : vx_Met l yX19_of (ws_ yX19_of cX19_of 4 (some (.object "BladeAlgebra$Multi"))) ({ frames := 9, cells := 8, slots := 152, locals := 540 } : Room) (gP [.ref ao, .ref ga, .ref ma, .ref mb] s0 A (fun H => H.size = sz ∧ RO A (dC, dI) [(ma, .inr (0, [.ref mr, .long (M 0)])), (mr, .inl (dA 1, 32, .inr (.inl (fun j => M (j + 1)))))] H ∧ RO A (dC, dI) [(mb, .inr (0, [.ref nr, .long (N 0)])), (nr, .inl (dA 1, 32, .inr (.inl (fun j => N (j + 1)))))] H ∧ AG A (dC, dI) dA ga sg sr p0 q0 r0 H)) (va_Qr (S := Nat × MV) (fun u => cmbS 1 p0 q0 r0 M N = some u.2) (B1r (dC, dI) A (fun u q => MA dA q u.1 u.2) (fun _ _ _ => True)) A) (vx_X (S := Unit) (fun _ => cmbS 1 p0 q0 r0 M N = none) (fun _ E _ _ => E = "BladeAlgebra$Unfit") A) 8 152 A := by
  refine vx_ofW (cc := cX19_of) (maxL := 4) (ret := (some (.object "BladeAlgebra$Multi"))) (by decide) rfl ?_
  intro p e s m args below meth c s₁ B hml hnoH hv
  obtain ⟨hav, hG, hsz, hR0, hR1, hAG⟩ := hv
  have hx := B.exec
  have hb := B.bytes
  have hr := B.returns
  have hts := atoms_spec (ws := (ws_ yX19_of cX19_of 4 (some (.object "BladeAlgebra$Multi")))) B.pre
  have hts : ∀ w ∈ lw_all, w.before _ s = true := fun w h => hts w (List.mem_cons_of_mem _ h)
  have hown : s.vm.findClass RX19 = some m.cls := findClass_of_methodNamed B.named
  have hlocks := B.notSynchronized
  have hK := hG.K Z
  subst hsz
  have hS : va_S A s.heap s.heap [] := va_S.rf
  have hP : va_P (dC, dI) vwCl [] s.heap := fun k q h => by simp at h
  have hD : va_D A [] := ⟨fun i j p q h => by simp at h, fun k q h => by simp at h⟩
  have hl := lv_entry ([.ref ao, .ref ga, .ref ma, .ref mb]) (n := 4) (Nat.le_of_ble_eq_true rfl)
  rw [show entryFrame m args 4 = entryFrame m ([.ref ao, .ref ga, .ref ma, .ref mb] : List Value).toArray 4 from by rw [hav], lg_entry_eq]
  generalize (lg_sl ([.ref ao, .ref ga, .ref ma, .ref mb]) ++ List.replicate (4 - (lg_sl ([.ref ao, .ref ga, .ref ma, .ref mb])).length) Slot.unset).toArray = ls at hl ⊢
  have hl : lv_has ls 4 [(0, .ref ao), (1, .ref ga), (2, .ref ma), (3, .ref mb)] := hl
  generalize hQe : vx_MQ below _ _ _ s _ _ _ = Q
  change W p l e ({ frames := 9, cells := 8, slots := 152, locals := 540 } : Room) s m args below meth c s.heap [] 0 0 Q (F0 m 0 ls [])
  have hn := hAG.1
  have h5 := pow5 hn
  have hR2 := hAG.2.1
  refine lv_aload_n hx hb dX19_of_0 rfl (lv_at hl 2 rfl) ?_
  refine lv_aload_n hx hb dX19_of_1 rfl (lv_at hl 3 rfl) ?_
  refine lv_iconst (v := (-1)) hx hb dX19_of_2 (by decide) ?_
  have hF9 := va_free (wc := []) hD hS (fun q h => hA q h) [] rfl
  refine x_r (wc := []) (wr := []) (vx_runV (As := [.ref mb, .int (-1)]) (rest := []) ⟨hx, hb, hml, hown, hts⟩ (x6_plus Z (va_A [] s.heap.size) s.heap.size (fun q h => Or.inr h) Y ma mr M mb nr N (-1) (Or.inr (Or.inl rfl)) sM sN) (cwV 2 hts (lw_V q647 q641 q642 q102 q643) rfl rfl rfl (by decide +kernel) ⟨Nat.le_of_ble_eq_true rfl, Nat.le_of_ble_eq_true rfl⟩) (gP_V (va_recv hK (hR0.up hS) (ci := 0) (q0 := 0) rfl rfl) hG hS (fun q _ h => hF9 q h) ⟨rfl, (hR0.to hS (fun q _ h => hF9 q h)), (hR1.to hS (fun q _ h => hF9 q h))⟩) rfl rfl hl.1 rfl (lv_room (Nat.le_of_ble_eq_true rfl)) dX19_of_3 ⟨by first | decide | omega | (show _ ≤ (8 : Nat); omega), by first | decide | omega | (show _ ≤ (152 : Nat); omega)⟩) hP hD hS hA [] [] rfl rfl (by decide) (by decide) (fun E ce q9 u9 t9 H locs ht9 hp9 hb9 hz hP hS h1 h2 h3 => ?_) (fun u9 ra9 H locs hq hX hz hk hP hD hS => ?_)
  · have hD := hD.sub (ws' := []) [] (by decide) rfl
    have hP : va_P (dC, dI) vwCl [] H := hP
    have hD : va_D A [] := hD
    subst hb9
    subst hQe
    exact vx_out (fun x h => (hnoH x h).elim) hlocks h1 h2 h3 (fun t10 e10 _ => ⟨(), hp9, rfl, hS.F e10⟩) hS.2.2 (by first | decide | omega) (by first | decide | omega)
  obtain ⟨ra_1, rfl⟩ : ∃ z, z = ra9 := ⟨_, rfl⟩
  obtain ⟨mr_1, M_1⟩ := u9
  have e_1 := hq
  have sm_1 : MSm M_1 := addS_sm sM sN e_1
  clear hq
  have hP : va_P (dC, dI) vwCl [(ra_1, .inr (0, [.ref mr_1, .long (M_1 0)])), (mr_1, .inl (dA 1, 32, .inr (.inl (fun j => M_1 (j + 1)))))] H := hP
  have hD : va_D A [(ra_1, .inr (0, [.ref mr_1, .long (M_1 0)])), (mr_1, .inl (dA 1, 32, .inr (.inl (fun j => M_1 (j + 1)))))] := hD
  subst hQe
  refine vx_ret ?_
  refine W.widen (k := 8) (n := 152) (by first | decide | omega) (by first | decide | omega) ?_
  exact W.aret (v := .ref ra_1) hx hb hr (Or.inl ⟨_, rfl⟩) (Or.inr ⟨_, rfl⟩) (fun tz ht hW => ⟨⟨(mr_1, M_1), ra_1, rfl, e_1, B1r_at ht (hP.sub [0, 1] rfl) (hD.sub [0, 1] (by decide) rfl) trivial⟩, hS.F ht⟩) hS.2.2 dX19_of_6
set_option maxHeartbeats 4000000 in
theorem xt2 {l : Launch} {dC : Nat → ClassId} {dI : Nat → Nat → Nat} {dA : Nat → ClassId} {s0 : State} {b0 : Addr} (Z : Z0 l dC dI dA s0 b0) (A : Nat → Prop) (sz : Nat) (hA : ∀ q : Nat, sz ≤ q → A q) {σ : Nat → Nat} (Y : SS (dC, dI) dA σ s0) (ao : Nat) (ga sg : Nat) (sr : Nat → Nat) (p0 q0 r0 : Nat) (ma mr : Nat) (M : MV) (mb nr : Nat) (N : MV) (sM : MSm M) (sN : MSm N) : vx_Met l yX20_of (ws_ yX20_of cX20_of 4 (some (.object "BladeAlgebra$Multi"))) ({ frames := 9, cells := 8, slots := 152, locals := 540 } : Room) (gP [.ref ao, .ref ga, .ref ma, .ref mb] s0 A (fun H => H.size = sz ∧ RO A (dC, dI) [(ma, .inr (0, [.ref mr, .long (M 0)])), (mr, .inl (dA 1, 32, .inr (.inl (fun j => M (j + 1)))))] H ∧ RO A (dC, dI) [(mb, .inr (0, [.ref nr, .long (N 0)])), (nr, .inl (dA 1, 32, .inr (.inl (fun j => N (j + 1)))))] H ∧ AG A (dC, dI) dA ga sg sr p0 q0 r0 H)) (va_Qr (S := Nat × MV) (fun u => cmbS 2 p0 q0 r0 M N = some u.2) (B1r (dC, dI) A (fun u q => MA dA q u.1 u.2) (fun _ _ _ => True)) A) (vx_X (S := Unit) (fun _ => cmbS 2 p0 q0 r0 M N = none) (fun _ E _ _ => E = "BladeAlgebra$Unfit") A) 8 152 A := by
  refine vx_ofW (cc := cX20_of) (maxL := 4) (ret := (some (.object "BladeAlgebra$Multi"))) (by decide) rfl ?_
  intro p e s m args below meth c s₁ B hml hnoH hv
  obtain ⟨hav, hG, hsz, hR0, hR1, hAG⟩ := hv
  have hx := B.exec
  have hb := B.bytes
  have hr := B.returns
  have hts := atoms_spec (ws := (ws_ yX20_of cX20_of 4 (some (.object "BladeAlgebra$Multi")))) B.pre
  have hts : ∀ w ∈ lw_all, w.before _ s = true := fun w h => hts w (List.mem_cons_of_mem _ h)
  have hown : s.vm.findClass RX20 = some m.cls := findClass_of_methodNamed B.named
  have hlocks := B.notSynchronized
  have hK := hG.K Z
  subst hsz
  have hS : va_S A s.heap s.heap [] := va_S.rf
  have hP : va_P (dC, dI) vwCl [] s.heap := fun k q h => by simp at h
  have hD : va_D A [] := ⟨fun i j p q h => by simp at h, fun k q h => by simp at h⟩
  have hl := lv_entry ([.ref ao, .ref ga, .ref ma, .ref mb]) (n := 4) (Nat.le_of_ble_eq_true rfl)
  rw [show entryFrame m args 4 = entryFrame m ([.ref ao, .ref ga, .ref ma, .ref mb] : List Value).toArray 4 from by rw [hav], lg_entry_eq]
  generalize (lg_sl ([.ref ao, .ref ga, .ref ma, .ref mb]) ++ List.replicate (4 - (lg_sl ([.ref ao, .ref ga, .ref ma, .ref mb])).length) Slot.unset).toArray = ls at hl ⊢
  have hl : lv_has ls 4 [(0, .ref ao), (1, .ref ga), (2, .ref ma), (3, .ref mb)] := hl
  generalize hQe : vx_MQ below _ _ _ s _ _ _ = Q
  change W p l e ({ frames := 9, cells := 8, slots := 152, locals := 540 } : Room) s m args below meth c s.heap [] 0 0 Q (F0 m 0 ls [])
  have hn := hAG.1
  have h5 := pow5 hn
  have hR2 := hAG.2.1
  refine lv_aload_n hx hb dX20_of_0 rfl (lv_at hl 1 rfl) ?_
  refine lv_aload_n hx hb dX20_of_1 rfl (lv_at hl 2 rfl) ?_
  refine lv_aload_n hx hb dX20_of_2 rfl (lv_at hl 3 rfl) ?_
  have hF9 := va_free (wc := []) hD hS (fun q h => hA q h) [] rfl
  refine x_r (wc := []) (wr := []) (vx_runV (As := [.ref ma, .ref mb]) (rest := []) ⟨hx, hb, hml, hown, hts⟩ (x5_product2 Z (va_A [] s.heap.size) s.heap.size (fun q h => Or.inr h) Y ga sg sr p0 q0 r0 ma mr M mb nr N sM sN) (cwV 2 hts (lw_V q651 q652 q653 q101 q654) rfl rfl rfl (by decide +kernel) ⟨Nat.le_of_ble_eq_true rfl, Nat.le_of_ble_eq_true rfl⟩) (gP_V (va_recv hK (hR2.up hS) (ci := 1) (q0 := 0) rfl rfl) hG hS (fun q _ h => hF9 q h) ⟨rfl, (hR0.to hS (fun q _ h => hF9 q h)), (hR1.to hS (fun q _ h => hF9 q h)), (hAG.to hS (fun q _ h => hF9 q h))⟩) rfl rfl hl.1 rfl (lv_room (Nat.le_of_ble_eq_true rfl)) dX20_of_3 ⟨by first | decide | omega | (show _ ≤ (8 : Nat); omega), by first | decide | omega | (show _ ≤ (152 : Nat); omega)⟩) hP hD hS hA [] [] rfl rfl (by decide) (by decide) (fun E ce q9 u9 t9 H locs ht9 hp9 hb9 hz hP hS h1 h2 h3 => ?_) (fun u9 ra9 H locs hq hX hz hk hP hD hS => ?_)
  · have hD := hD.sub (ws' := []) [] (by decide) rfl
    have hP : va_P (dC, dI) vwCl [] H := hP
    have hD : va_D A [] := hD
    subst hb9
    subst hQe
    exact vx_out (fun x h => (hnoH x h).elim) hlocks h1 h2 h3 (fun t10 e10 _ => ⟨(), hp9, rfl, hS.F e10⟩) hS.2.2 (by first | decide | omega) (by first | decide | omega)
  obtain ⟨ra_1, rfl⟩ : ∃ z, z = ra9 := ⟨_, rfl⟩
  obtain ⟨mr_1, M_1⟩ := u9
  have e_1 := hq
  have sm_1 : MSm M_1 := mulS_sm sM sN e_1
  clear hq
  have hP : va_P (dC, dI) vwCl [(ra_1, .inr (0, [.ref mr_1, .long (M_1 0)])), (mr_1, .inl (dA 1, 32, .inr (.inl (fun j => M_1 (j + 1)))))] H := hP
  have hD : va_D A [(ra_1, .inr (0, [.ref mr_1, .long (M_1 0)])), (mr_1, .inl (dA 1, 32, .inr (.inl (fun j => M_1 (j + 1)))))] := hD
  subst hQe
  refine vx_ret ?_
  refine W.widen (k := 8) (n := 152) (by first | decide | omega) (by first | decide | omega) ?_
  exact W.aret (v := .ref ra_1) hx hb hr (Or.inl ⟨_, rfl⟩) (Or.inr ⟨_, rfl⟩) (fun tz ht hW => ⟨⟨(mr_1, M_1), ra_1, rfl, e_1, B1r_at ht (hP.sub [0, 1] rfl) (hD.sub [0, 1] (by decide) rfl) trivial⟩, hS.F ht⟩) hS.2.2 dX20_of_6
set_option maxHeartbeats 4000000 in
theorem xt3 {l : Launch} {dC : Nat → ClassId} {dI : Nat → Nat → Nat} {dA : Nat → ClassId} {s0 : State} {b0 : Addr} (Z : Z0 l dC dI dA s0 b0) (A : Nat → Prop) (sz : Nat) (hA : ∀ q : Nat, sz ≤ q → A q) {σ : Nat → Nat} (Y : SS (dC, dI) dA σ s0) (ao : Nat) (ga sg : Nat) (sr : Nat → Nat) (p0 q0 r0 : Nat) (ma mr : Nat) (M : MV) (mb nr : Nat) (N : MV) (sM : MSm M) (sN : MSm N) : vx_Met l yX26_of (ws_ yX26_of cX26_of 4 (some (.object "BladeAlgebra$Multi"))) ({ frames := 9, cells := 8, slots := 152, locals := 540 } : Room) (gP [.ref ao, .ref ga, .ref ma, .ref mb] s0 A (fun H => H.size = sz ∧ RO A (dC, dI) [(ma, .inr (0, [.ref mr, .long (M 0)])), (mr, .inl (dA 1, 32, .inr (.inl (fun j => M (j + 1)))))] H ∧ RO A (dC, dI) [(mb, .inr (0, [.ref nr, .long (N 0)])), (nr, .inl (dA 1, 32, .inr (.inl (fun j => N (j + 1)))))] H ∧ AG A (dC, dI) dA ga sg sr p0 q0 r0 H)) (va_Qr (S := Nat × MV) (fun u => cmbS 3 p0 q0 r0 M N = some u.2) (B1r (dC, dI) A (fun u q => MA dA q u.1 u.2) (fun _ _ _ => True)) A) (vx_X (S := Unit) (fun _ => cmbS 3 p0 q0 r0 M N = none) (fun _ E _ _ => E = "BladeAlgebra$Unfit") A) 8 152 A := by
  refine vx_ofW (cc := cX26_of) (maxL := 4) (ret := (some (.object "BladeAlgebra$Multi"))) (by decide) rfl ?_
  intro p e s m args below meth c s₁ B hml hnoH hv
  obtain ⟨hav, hG, hsz, hR0, hR1, hAG⟩ := hv
  have hx := B.exec
  have hb := B.bytes
  have hr := B.returns
  have hts := atoms_spec (ws := (ws_ yX26_of cX26_of 4 (some (.object "BladeAlgebra$Multi")))) B.pre
  have hts : ∀ w ∈ lw_all, w.before _ s = true := fun w h => hts w (List.mem_cons_of_mem _ h)
  have hown : s.vm.findClass RX26 = some m.cls := findClass_of_methodNamed B.named
  have hlocks := B.notSynchronized
  have hK := hG.K Z
  subst hsz
  have hS : va_S A s.heap s.heap [] := va_S.rf
  have hP : va_P (dC, dI) vwCl [] s.heap := fun k q h => by simp at h
  have hD : va_D A [] := ⟨fun i j p q h => by simp at h, fun k q h => by simp at h⟩
  have hl := lv_entry ([.ref ao, .ref ga, .ref ma, .ref mb]) (n := 4) (Nat.le_of_ble_eq_true rfl)
  rw [show entryFrame m args 4 = entryFrame m ([.ref ao, .ref ga, .ref ma, .ref mb] : List Value).toArray 4 from by rw [hav], lg_entry_eq]
  generalize (lg_sl ([.ref ao, .ref ga, .ref ma, .ref mb]) ++ List.replicate (4 - (lg_sl ([.ref ao, .ref ga, .ref ma, .ref mb])).length) Slot.unset).toArray = ls at hl ⊢
  have hl : lv_has ls 4 [(0, .ref ao), (1, .ref ga), (2, .ref ma), (3, .ref mb)] := hl
  generalize hQe : vx_MQ below _ _ _ s _ _ _ = Q
  change W p l e ({ frames := 9, cells := 8, slots := 152, locals := 540 } : Room) s m args below meth c s.heap [] 0 0 Q (F0 m 0 ls [])
  have hn := hAG.1
  have h5 := pow5 hn
  have hR2 := hAG.2.1
  refine lv_aload_n hx hb dX26_of_0 rfl (lv_at hl 1 rfl) ?_
  refine lv_aload_n hx hb dX26_of_1 rfl (lv_at hl 2 rfl) ?_
  refine lv_aload_n hx hb dX26_of_2 rfl (lv_at hl 3 rfl) ?_
  refine va_gets (v := .ref (σ (10 + 1))) hx hb (hG.Z Z (SS.pr Y 1 (by decide)).1) hS hown (hts _ q683) (fun _ h9 => h9) dX26_of_3 ?_
  have hF9 := va_free (wc := []) hD hS (fun q h => hA q h) [] rfl
  refine x_r (wc := []) (wr := []) (vx_runV (As := [.ref ma, .ref mb, .ref (σ (10 + 1))]) (rest := []) ⟨hx, hb, hml, hown, hts⟩ (x5_product Z (va_A [] s.heap.size) s.heap.size (fun q h => Or.inr h) Y ga sg sr p0 q0 r0 ma mr M mb nr N 1 (by omega) sM sN) (cwV 3 hts (lw_V q685 q658 q659 q101 q660) rfl rfl rfl (by decide +kernel) ⟨Nat.le_of_ble_eq_true rfl, Nat.le_of_ble_eq_true rfl⟩) (gP_V (va_recv hK (hR2.up hS) (ci := 1) (q0 := 0) rfl rfl) hG hS (fun q _ h => hF9 q h) ⟨rfl, (hR0.to hS (fun q _ h => hF9 q h)), (hR1.to hS (fun q _ h => hF9 q h)), (hAG.to hS (fun q _ h => hF9 q h))⟩) rfl rfl hl.1 rfl (lv_room (Nat.le_of_ble_eq_true rfl)) dX26_of_6 ⟨by first | decide | omega | (show _ ≤ (8 : Nat); omega), by first | decide | omega | (show _ ≤ (152 : Nat); omega)⟩) hP hD hS hA [] [] rfl rfl (by decide) (by decide) (fun E ce q9 u9 t9 H locs ht9 hp9 hb9 hz hP hS h1 h2 h3 => ?_) (fun u9 ra9 H locs hq hX hz hk hP hD hS => ?_)
  · have hD := hD.sub (ws' := []) [] (by decide) rfl
    have hP : va_P (dC, dI) vwCl [] H := hP
    have hD : va_D A [] := hD
    subst hb9
    subst hQe
    exact vx_out (fun x h => (hnoH x h).elim) hlocks h1 h2 h3 (fun t10 e10 _ => ⟨(), hp9, rfl, hS.F e10⟩) hS.2.2 (by first | decide | omega) (by first | decide | omega)
  obtain ⟨ra_1, rfl⟩ : ∃ z, z = ra9 := ⟨_, rfl⟩
  obtain ⟨mr_1, M_1⟩ := u9
  have e_1 := hq
  have sm_1 : MSm M_1 := mulS_sm sM sN e_1
  clear hq
  have hP : va_P (dC, dI) vwCl [(ra_1, .inr (0, [.ref mr_1, .long (M_1 0)])), (mr_1, .inl (dA 1, 32, .inr (.inl (fun j => M_1 (j + 1)))))] H := hP
  have hD : va_D A [(ra_1, .inr (0, [.ref mr_1, .long (M_1 0)])), (mr_1, .inl (dA 1, 32, .inr (.inl (fun j => M_1 (j + 1)))))] := hD
  subst hQe
  refine vx_ret ?_
  refine W.widen (k := 8) (n := 152) (by first | decide | omega) (by first | decide | omega) ?_
  exact W.aret (v := .ref ra_1) hx hb hr (Or.inl ⟨_, rfl⟩) (Or.inr ⟨_, rfl⟩) (fun tz ht hW => ⟨⟨(mr_1, M_1), ra_1, rfl, e_1, B1r_at ht (hP.sub [0, 1] rfl) (hD.sub [0, 1] (by decide) rfl) trivial⟩, hS.F ht⟩) hS.2.2 dX26_of_9
set_option maxHeartbeats 4000000 in
theorem xt4 {l : Launch} {dC : Nat → ClassId} {dI : Nat → Nat → Nat} {dA : Nat → ClassId} {s0 : State} {b0 : Addr} (Z : Z0 l dC dI dA s0 b0) (A : Nat → Prop) (sz : Nat) (hA : ∀ q : Nat, sz ≤ q → A q) {σ : Nat → Nat} (Y : SS (dC, dI) dA σ s0) (ao : Nat) (ga sg : Nat) (sr : Nat → Nat) (p0 q0 r0 : Nat) (ma mr : Nat) (M : MV) (mb nr : Nat) (N : MV) (sM : MSm M) (sN : MSm N) : vx_Met l yX27_of (ws_ yX27_of cX27_of 4 (some (.object "BladeAlgebra$Multi"))) ({ frames := 9, cells := 8, slots := 152, locals := 540 } : Room) (gP [.ref ao, .ref ga, .ref ma, .ref mb] s0 A (fun H => H.size = sz ∧ RO A (dC, dI) [(ma, .inr (0, [.ref mr, .long (M 0)])), (mr, .inl (dA 1, 32, .inr (.inl (fun j => M (j + 1)))))] H ∧ RO A (dC, dI) [(mb, .inr (0, [.ref nr, .long (N 0)])), (nr, .inl (dA 1, 32, .inr (.inl (fun j => N (j + 1)))))] H ∧ AG A (dC, dI) dA ga sg sr p0 q0 r0 H)) (va_Qr (S := Nat × MV) (fun u => cmbS 4 p0 q0 r0 M N = some u.2) (B1r (dC, dI) A (fun u q => MA dA q u.1 u.2) (fun _ _ _ => True)) A) (vx_X (S := Unit) (fun _ => cmbS 4 p0 q0 r0 M N = none) (fun _ E _ _ => E = "BladeAlgebra$Unfit") A) 8 152 A := by
  refine vx_ofW (cc := cX27_of) (maxL := 4) (ret := (some (.object "BladeAlgebra$Multi"))) (by decide) rfl ?_
  intro p e s m args below meth c s₁ B hml hnoH hv
  obtain ⟨hav, hG, hsz, hR0, hR1, hAG⟩ := hv
  have hx := B.exec
  have hb := B.bytes
  have hr := B.returns
  have hts := atoms_spec (ws := (ws_ yX27_of cX27_of 4 (some (.object "BladeAlgebra$Multi")))) B.pre
  have hts : ∀ w ∈ lw_all, w.before _ s = true := fun w h => hts w (List.mem_cons_of_mem _ h)
  have hown : s.vm.findClass RX27 = some m.cls := findClass_of_methodNamed B.named
  have hlocks := B.notSynchronized
  have hK := hG.K Z
  subst hsz
  have hS : va_S A s.heap s.heap [] := va_S.rf
  have hP : va_P (dC, dI) vwCl [] s.heap := fun k q h => by simp at h
  have hD : va_D A [] := ⟨fun i j p q h => by simp at h, fun k q h => by simp at h⟩
  have hl := lv_entry ([.ref ao, .ref ga, .ref ma, .ref mb]) (n := 4) (Nat.le_of_ble_eq_true rfl)
  rw [show entryFrame m args 4 = entryFrame m ([.ref ao, .ref ga, .ref ma, .ref mb] : List Value).toArray 4 from by rw [hav], lg_entry_eq]
  generalize (lg_sl ([.ref ao, .ref ga, .ref ma, .ref mb]) ++ List.replicate (4 - (lg_sl ([.ref ao, .ref ga, .ref ma, .ref mb])).length) Slot.unset).toArray = ls at hl ⊢
  have hl : lv_has ls 4 [(0, .ref ao), (1, .ref ga), (2, .ref ma), (3, .ref mb)] := hl
  generalize hQe : vx_MQ below _ _ _ s _ _ _ = Q
  change W p l e ({ frames := 9, cells := 8, slots := 152, locals := 540 } : Room) s m args below meth c s.heap [] 0 0 Q (F0 m 0 ls [])
  have hn := hAG.1
  have h5 := pow5 hn
  have hR2 := hAG.2.1
  refine lv_aload_n hx hb dX27_of_0 rfl (lv_at hl 1 rfl) ?_
  refine lv_aload_n hx hb dX27_of_1 rfl (lv_at hl 2 rfl) ?_
  refine lv_aload_n hx hb dX27_of_2 rfl (lv_at hl 3 rfl) ?_
  refine va_gets (v := .ref (σ (10 + 2))) hx hb (hG.Z Z (SS.pr Y 2 (by decide)).1) hS hown (hts _ q689) (fun _ h9 => h9) dX27_of_3 ?_
  have hF9 := va_free (wc := []) hD hS (fun q h => hA q h) [] rfl
  refine x_r (wc := []) (wr := []) (vx_runV (As := [.ref ma, .ref mb, .ref (σ (10 + 2))]) (rest := []) ⟨hx, hb, hml, hown, hts⟩ (x5_product Z (va_A [] s.heap.size) s.heap.size (fun q h => Or.inr h) Y ga sg sr p0 q0 r0 ma mr M mb nr N 2 (by omega) sM sN) (cwV 3 hts (lw_V q691 q658 q659 q101 q660) rfl rfl rfl (by decide +kernel) ⟨Nat.le_of_ble_eq_true rfl, Nat.le_of_ble_eq_true rfl⟩) (gP_V (va_recv hK (hR2.up hS) (ci := 1) (q0 := 0) rfl rfl) hG hS (fun q _ h => hF9 q h) ⟨rfl, (hR0.to hS (fun q _ h => hF9 q h)), (hR1.to hS (fun q _ h => hF9 q h)), (hAG.to hS (fun q _ h => hF9 q h))⟩) rfl rfl hl.1 rfl (lv_room (Nat.le_of_ble_eq_true rfl)) dX27_of_6 ⟨by first | decide | omega | (show _ ≤ (8 : Nat); omega), by first | decide | omega | (show _ ≤ (152 : Nat); omega)⟩) hP hD hS hA [] [] rfl rfl (by decide) (by decide) (fun E ce q9 u9 t9 H locs ht9 hp9 hb9 hz hP hS h1 h2 h3 => ?_) (fun u9 ra9 H locs hq hX hz hk hP hD hS => ?_)
  · have hD := hD.sub (ws' := []) [] (by decide) rfl
    have hP : va_P (dC, dI) vwCl [] H := hP
    have hD : va_D A [] := hD
    subst hb9
    subst hQe
    exact vx_out (fun x h => (hnoH x h).elim) hlocks h1 h2 h3 (fun t10 e10 _ => ⟨(), hp9, rfl, hS.F e10⟩) hS.2.2 (by first | decide | omega) (by first | decide | omega)
  obtain ⟨ra_1, rfl⟩ : ∃ z, z = ra9 := ⟨_, rfl⟩
  obtain ⟨mr_1, M_1⟩ := u9
  have e_1 := hq
  have sm_1 : MSm M_1 := mulS_sm sM sN e_1
  clear hq
  have hP : va_P (dC, dI) vwCl [(ra_1, .inr (0, [.ref mr_1, .long (M_1 0)])), (mr_1, .inl (dA 1, 32, .inr (.inl (fun j => M_1 (j + 1)))))] H := hP
  have hD : va_D A [(ra_1, .inr (0, [.ref mr_1, .long (M_1 0)])), (mr_1, .inl (dA 1, 32, .inr (.inl (fun j => M_1 (j + 1)))))] := hD
  subst hQe
  refine vx_ret ?_
  refine W.widen (k := 8) (n := 152) (by first | decide | omega) (by first | decide | omega) ?_
  exact W.aret (v := .ref ra_1) hx hb hr (Or.inl ⟨_, rfl⟩) (Or.inr ⟨_, rfl⟩) (fun tz ht hW => ⟨⟨(mr_1, M_1), ra_1, rfl, e_1, B1r_at ht (hP.sub [0, 1] rfl) (hD.sub [0, 1] (by decide) rfl) trivial⟩, hS.F ht⟩) hS.2.2 dX27_of_9
set_option maxHeartbeats 4000000 in
theorem xt5 {l : Launch} {dC : Nat → ClassId} {dI : Nat → Nat → Nat} {dA : Nat → ClassId} {s0 : State} {b0 : Addr} (Z : Z0 l dC dI dA s0 b0) (A : Nat → Prop) (sz : Nat) (hA : ∀ q : Nat, sz ≤ q → A q) {σ : Nat → Nat} (Y : SS (dC, dI) dA σ s0) (ao : Nat) (ga sg : Nat) (sr : Nat → Nat) (p0 q0 r0 : Nat) (ma mr : Nat) (M : MV) (mb nr : Nat) (N : MV) (sM : MSm M) (sN : MSm N) : vx_Met l yX28_of (ws_ yX28_of cX28_of 4 (some (.object "BladeAlgebra$Multi"))) ({ frames := 9, cells := 8, slots := 152, locals := 540 } : Room) (gP [.ref ao, .ref ga, .ref ma, .ref mb] s0 A (fun H => H.size = sz ∧ RO A (dC, dI) [(ma, .inr (0, [.ref mr, .long (M 0)])), (mr, .inl (dA 1, 32, .inr (.inl (fun j => M (j + 1)))))] H ∧ RO A (dC, dI) [(mb, .inr (0, [.ref nr, .long (N 0)])), (nr, .inl (dA 1, 32, .inr (.inl (fun j => N (j + 1)))))] H ∧ AG A (dC, dI) dA ga sg sr p0 q0 r0 H)) (va_Qr (S := Nat × MV) (fun u => cmbS 5 p0 q0 r0 M N = some u.2) (B1r (dC, dI) A (fun u q => MA dA q u.1 u.2) (fun _ _ _ => True)) A) (vx_X (S := Unit) (fun _ => cmbS 5 p0 q0 r0 M N = none) (fun _ E _ _ => E = "BladeAlgebra$Unfit") A) 8 152 A := by
  refine vx_ofW (cc := cX28_of) (maxL := 4) (ret := (some (.object "BladeAlgebra$Multi"))) (by decide) rfl ?_
  intro p e s m args below meth c s₁ B hml hnoH hv
  obtain ⟨hav, hG, hsz, hR0, hR1, hAG⟩ := hv
  have hx := B.exec
  have hb := B.bytes
  have hr := B.returns
  have hts := atoms_spec (ws := (ws_ yX28_of cX28_of 4 (some (.object "BladeAlgebra$Multi")))) B.pre
  have hts : ∀ w ∈ lw_all, w.before _ s = true := fun w h => hts w (List.mem_cons_of_mem _ h)
  have hown : s.vm.findClass RX28 = some m.cls := findClass_of_methodNamed B.named
  have hlocks := B.notSynchronized
  have hK := hG.K Z
  subst hsz
  have hS : va_S A s.heap s.heap [] := va_S.rf
  have hP : va_P (dC, dI) vwCl [] s.heap := fun k q h => by simp at h
  have hD : va_D A [] := ⟨fun i j p q h => by simp at h, fun k q h => by simp at h⟩
  have hl := lv_entry ([.ref ao, .ref ga, .ref ma, .ref mb]) (n := 4) (Nat.le_of_ble_eq_true rfl)
  rw [show entryFrame m args 4 = entryFrame m ([.ref ao, .ref ga, .ref ma, .ref mb] : List Value).toArray 4 from by rw [hav], lg_entry_eq]
  generalize (lg_sl ([.ref ao, .ref ga, .ref ma, .ref mb]) ++ List.replicate (4 - (lg_sl ([.ref ao, .ref ga, .ref ma, .ref mb])).length) Slot.unset).toArray = ls at hl ⊢
  have hl : lv_has ls 4 [(0, .ref ao), (1, .ref ga), (2, .ref ma), (3, .ref mb)] := hl
  generalize hQe : vx_MQ below _ _ _ s _ _ _ = Q
  change W p l e ({ frames := 9, cells := 8, slots := 152, locals := 540 } : Room) s m args below meth c s.heap [] 0 0 Q (F0 m 0 ls [])
  have hn := hAG.1
  have h5 := pow5 hn
  have hR2 := hAG.2.1
  refine lv_aload_n hx hb dX28_of_0 rfl (lv_at hl 1 rfl) ?_
  refine lv_aload_n hx hb dX28_of_1 rfl (lv_at hl 2 rfl) ?_
  refine lv_aload_n hx hb dX28_of_2 rfl (lv_at hl 3 rfl) ?_
  refine va_gets (v := .ref (σ (10 + 3))) hx hb (hG.Z Z (SS.pr Y 3 (by decide)).1) hS hown (hts _ q695) (fun _ h9 => h9) dX28_of_3 ?_
  have hF9 := va_free (wc := []) hD hS (fun q h => hA q h) [] rfl
  refine x_r (wc := []) (wr := []) (vx_runV (As := [.ref ma, .ref mb, .ref (σ (10 + 3))]) (rest := []) ⟨hx, hb, hml, hown, hts⟩ (x5_product Z (va_A [] s.heap.size) s.heap.size (fun q h => Or.inr h) Y ga sg sr p0 q0 r0 ma mr M mb nr N 3 (by omega) sM sN) (cwV 3 hts (lw_V q697 q658 q659 q101 q660) rfl rfl rfl (by decide +kernel) ⟨Nat.le_of_ble_eq_true rfl, Nat.le_of_ble_eq_true rfl⟩) (gP_V (va_recv hK (hR2.up hS) (ci := 1) (q0 := 0) rfl rfl) hG hS (fun q _ h => hF9 q h) ⟨rfl, (hR0.to hS (fun q _ h => hF9 q h)), (hR1.to hS (fun q _ h => hF9 q h)), (hAG.to hS (fun q _ h => hF9 q h))⟩) rfl rfl hl.1 rfl (lv_room (Nat.le_of_ble_eq_true rfl)) dX28_of_6 ⟨by first | decide | omega | (show _ ≤ (8 : Nat); omega), by first | decide | omega | (show _ ≤ (152 : Nat); omega)⟩) hP hD hS hA [] [] rfl rfl (by decide) (by decide) (fun E ce q9 u9 t9 H locs ht9 hp9 hb9 hz hP hS h1 h2 h3 => ?_) (fun u9 ra9 H locs hq hX hz hk hP hD hS => ?_)
  · have hD := hD.sub (ws' := []) [] (by decide) rfl
    have hP : va_P (dC, dI) vwCl [] H := hP
    have hD : va_D A [] := hD
    subst hb9
    subst hQe
    exact vx_out (fun x h => (hnoH x h).elim) hlocks h1 h2 h3 (fun t10 e10 _ => ⟨(), hp9, rfl, hS.F e10⟩) hS.2.2 (by first | decide | omega) (by first | decide | omega)
  obtain ⟨ra_1, rfl⟩ : ∃ z, z = ra9 := ⟨_, rfl⟩
  obtain ⟨mr_1, M_1⟩ := u9
  have e_1 := hq
  have sm_1 : MSm M_1 := mulS_sm sM sN e_1
  clear hq
  have hP : va_P (dC, dI) vwCl [(ra_1, .inr (0, [.ref mr_1, .long (M_1 0)])), (mr_1, .inl (dA 1, 32, .inr (.inl (fun j => M_1 (j + 1)))))] H := hP
  have hD : va_D A [(ra_1, .inr (0, [.ref mr_1, .long (M_1 0)])), (mr_1, .inl (dA 1, 32, .inr (.inl (fun j => M_1 (j + 1)))))] := hD
  subst hQe
  refine vx_ret ?_
  refine W.widen (k := 8) (n := 152) (by first | decide | omega) (by first | decide | omega) ?_
  exact W.aret (v := .ref ra_1) hx hb hr (Or.inl ⟨_, rfl⟩) (Or.inr ⟨_, rfl⟩) (fun tz ht hW => ⟨⟨(mr_1, M_1), ra_1, rfl, e_1, B1r_at ht (hP.sub [0, 1] rfl) (hD.sub [0, 1] (by decide) rfl) trivial⟩, hS.F ht⟩) hS.2.2 dX28_of_9
set_option maxHeartbeats 4000000 in
theorem xt6 {l : Launch} {dC : Nat → ClassId} {dI : Nat → Nat → Nat} {dA : Nat → ClassId} {s0 : State} {b0 : Addr} (Z : Z0 l dC dI dA s0 b0) (A : Nat → Prop) (sz : Nat) (hA : ∀ q : Nat, sz ≤ q → A q) {σ : Nat → Nat} (Y : SS (dC, dI) dA σ s0) (ao : Nat) (ga sg : Nat) (sr : Nat → Nat) (p0 q0 r0 : Nat) (ma mr : Nat) (M : MV) (mb nr : Nat) (N : MV) (sM : MSm M) (sN : MSm N) : vx_Met l yX29_of (ws_ yX29_of cX29_of 4 (some (.object "BladeAlgebra$Multi"))) ({ frames := 9, cells := 8, slots := 152, locals := 540 } : Room) (gP [.ref ao, .ref ga, .ref ma, .ref mb] s0 A (fun H => H.size = sz ∧ RO A (dC, dI) [(ma, .inr (0, [.ref mr, .long (M 0)])), (mr, .inl (dA 1, 32, .inr (.inl (fun j => M (j + 1)))))] H ∧ RO A (dC, dI) [(mb, .inr (0, [.ref nr, .long (N 0)])), (nr, .inl (dA 1, 32, .inr (.inl (fun j => N (j + 1)))))] H ∧ AG A (dC, dI) dA ga sg sr p0 q0 r0 H)) (va_Qr (S := Nat × MV) (fun u => cmbS 6 p0 q0 r0 M N = some u.2) (B1r (dC, dI) A (fun u q => MA dA q u.1 u.2) (fun _ _ _ => True)) A) (vx_X (S := Unit) (fun _ => cmbS 6 p0 q0 r0 M N = none) (fun _ E _ _ => E = "BladeAlgebra$Unfit") A) 8 152 A := by
  refine vx_ofW (cc := cX29_of) (maxL := 4) (ret := (some (.object "BladeAlgebra$Multi"))) (by decide) rfl ?_
  intro p e s m args below meth c s₁ B hml hnoH hv
  obtain ⟨hav, hG, hsz, hR0, hR1, hAG⟩ := hv
  have hx := B.exec
  have hb := B.bytes
  have hr := B.returns
  have hts := atoms_spec (ws := (ws_ yX29_of cX29_of 4 (some (.object "BladeAlgebra$Multi")))) B.pre
  have hts : ∀ w ∈ lw_all, w.before _ s = true := fun w h => hts w (List.mem_cons_of_mem _ h)
  have hown : s.vm.findClass RX29 = some m.cls := findClass_of_methodNamed B.named
  have hlocks := B.notSynchronized
  have hK := hG.K Z
  subst hsz
  have hS : va_S A s.heap s.heap [] := va_S.rf
  have hP : va_P (dC, dI) vwCl [] s.heap := fun k q h => by simp at h
  have hD : va_D A [] := ⟨fun i j p q h => by simp at h, fun k q h => by simp at h⟩
  have hl := lv_entry ([.ref ao, .ref ga, .ref ma, .ref mb]) (n := 4) (Nat.le_of_ble_eq_true rfl)
  rw [show entryFrame m args 4 = entryFrame m ([.ref ao, .ref ga, .ref ma, .ref mb] : List Value).toArray 4 from by rw [hav], lg_entry_eq]
  generalize (lg_sl ([.ref ao, .ref ga, .ref ma, .ref mb]) ++ List.replicate (4 - (lg_sl ([.ref ao, .ref ga, .ref ma, .ref mb])).length) Slot.unset).toArray = ls at hl ⊢
  have hl : lv_has ls 4 [(0, .ref ao), (1, .ref ga), (2, .ref ma), (3, .ref mb)] := hl
  generalize hQe : vx_MQ below _ _ _ s _ _ _ = Q
  change W p l e ({ frames := 9, cells := 8, slots := 152, locals := 540 } : Room) s m args below meth c s.heap [] 0 0 Q (F0 m 0 ls [])
  have hn := hAG.1
  have h5 := pow5 hn
  have hR2 := hAG.2.1
  refine lv_aload_n hx hb dX29_of_0 rfl (lv_at hl 1 rfl) ?_
  refine lv_aload_n hx hb dX29_of_1 rfl (lv_at hl 2 rfl) ?_
  refine lv_aload_n hx hb dX29_of_2 rfl (lv_at hl 3 rfl) ?_
  refine va_gets (v := .ref (σ (10 + 4))) hx hb (hG.Z Z (SS.pr Y 4 (by decide)).1) hS hown (hts _ q701) (fun _ h9 => h9) dX29_of_3 ?_
  have hF9 := va_free (wc := []) hD hS (fun q h => hA q h) [] rfl
  refine x_r (wc := []) (wr := []) (vx_runV (As := [.ref ma, .ref mb, .ref (σ (10 + 4))]) (rest := []) ⟨hx, hb, hml, hown, hts⟩ (x5_product Z (va_A [] s.heap.size) s.heap.size (fun q h => Or.inr h) Y ga sg sr p0 q0 r0 ma mr M mb nr N 4 (by omega) sM sN) (cwV 3 hts (lw_V q703 q658 q659 q101 q660) rfl rfl rfl (by decide +kernel) ⟨Nat.le_of_ble_eq_true rfl, Nat.le_of_ble_eq_true rfl⟩) (gP_V (va_recv hK (hR2.up hS) (ci := 1) (q0 := 0) rfl rfl) hG hS (fun q _ h => hF9 q h) ⟨rfl, (hR0.to hS (fun q _ h => hF9 q h)), (hR1.to hS (fun q _ h => hF9 q h)), (hAG.to hS (fun q _ h => hF9 q h))⟩) rfl rfl hl.1 rfl (lv_room (Nat.le_of_ble_eq_true rfl)) dX29_of_6 ⟨by first | decide | omega | (show _ ≤ (8 : Nat); omega), by first | decide | omega | (show _ ≤ (152 : Nat); omega)⟩) hP hD hS hA [] [] rfl rfl (by decide) (by decide) (fun E ce q9 u9 t9 H locs ht9 hp9 hb9 hz hP hS h1 h2 h3 => ?_) (fun u9 ra9 H locs hq hX hz hk hP hD hS => ?_)
  · have hD := hD.sub (ws' := []) [] (by decide) rfl
    have hP : va_P (dC, dI) vwCl [] H := hP
    have hD : va_D A [] := hD
    subst hb9
    subst hQe
    exact vx_out (fun x h => (hnoH x h).elim) hlocks h1 h2 h3 (fun t10 e10 _ => ⟨(), hp9, rfl, hS.F e10⟩) hS.2.2 (by first | decide | omega) (by first | decide | omega)
  obtain ⟨ra_1, rfl⟩ : ∃ z, z = ra9 := ⟨_, rfl⟩
  obtain ⟨mr_1, M_1⟩ := u9
  have e_1 := hq
  have sm_1 : MSm M_1 := mulS_sm sM sN e_1
  clear hq
  have hP : va_P (dC, dI) vwCl [(ra_1, .inr (0, [.ref mr_1, .long (M_1 0)])), (mr_1, .inl (dA 1, 32, .inr (.inl (fun j => M_1 (j + 1)))))] H := hP
  have hD : va_D A [(ra_1, .inr (0, [.ref mr_1, .long (M_1 0)])), (mr_1, .inl (dA 1, 32, .inr (.inl (fun j => M_1 (j + 1)))))] := hD
  subst hQe
  refine vx_ret ?_
  refine W.widen (k := 8) (n := 152) (by first | decide | omega) (by first | decide | omega) ?_
  exact W.aret (v := .ref ra_1) hx hb hr (Or.inl ⟨_, rfl⟩) (Or.inr ⟨_, rfl⟩) (fun tz ht hW => ⟨⟨(mr_1, M_1), ra_1, rfl, e_1, B1r_at ht (hP.sub [0, 1] rfl) (hD.sub [0, 1] (by decide) rfl) trivial⟩, hS.F ht⟩) hS.2.2 dX29_of_9
set_option maxHeartbeats 4000000 in
theorem xt7 {l : Launch} {dC : Nat → ClassId} {dI : Nat → Nat → Nat} {dA : Nat → ClassId} {s0 : State} {b0 : Addr} (Z : Z0 l dC dI dA s0 b0) (A : Nat → Prop) (sz : Nat) (hA : ∀ q : Nat, sz ≤ q → A q) {σ : Nat → Nat} (Y : SS (dC, dI) dA σ s0) (ao : Nat) (ga sg : Nat) (sr : Nat → Nat) (p0 q0 r0 : Nat) (ma mr : Nat) (M : MV) (mb nr : Nat) (N : MV) (sM : MSm M) (sN : MSm N) : vx_Met l yX30_of (ws_ yX30_of cX30_of 4 (some (.object "BladeAlgebra$Multi"))) ({ frames := 9, cells := 8, slots := 152, locals := 540 } : Room) (gP [.ref ao, .ref ga, .ref ma, .ref mb] s0 A (fun H => H.size = sz ∧ RO A (dC, dI) [(ma, .inr (0, [.ref mr, .long (M 0)])), (mr, .inl (dA 1, 32, .inr (.inl (fun j => M (j + 1)))))] H ∧ RO A (dC, dI) [(mb, .inr (0, [.ref nr, .long (N 0)])), (nr, .inl (dA 1, 32, .inr (.inl (fun j => N (j + 1)))))] H ∧ AG A (dC, dI) dA ga sg sr p0 q0 r0 H)) (va_Qr (S := Nat × MV) (fun u => cmbS 7 p0 q0 r0 M N = some u.2) (B1r (dC, dI) A (fun u q => MA dA q u.1 u.2) (fun _ _ _ => True)) A) (vx_X (S := Unit) (fun _ => cmbS 7 p0 q0 r0 M N = none) (fun _ E _ _ => E = "BladeAlgebra$Unfit") A) 8 152 A := by
  refine vx_ofW (cc := cX30_of) (maxL := 4) (ret := (some (.object "BladeAlgebra$Multi"))) (by decide) rfl ?_
  intro p e s m args below meth c s₁ B hml hnoH hv
  obtain ⟨hav, hG, hsz, hR0, hR1, hAG⟩ := hv
  have hx := B.exec
  have hb := B.bytes
  have hr := B.returns
  have hts := atoms_spec (ws := (ws_ yX30_of cX30_of 4 (some (.object "BladeAlgebra$Multi")))) B.pre
  have hts : ∀ w ∈ lw_all, w.before _ s = true := fun w h => hts w (List.mem_cons_of_mem _ h)
  have hown : s.vm.findClass RX30 = some m.cls := findClass_of_methodNamed B.named
  have hlocks := B.notSynchronized
  have hK := hG.K Z
  subst hsz
  have hS : va_S A s.heap s.heap [] := va_S.rf
  have hP : va_P (dC, dI) vwCl [] s.heap := fun k q h => by simp at h
  have hD : va_D A [] := ⟨fun i j p q h => by simp at h, fun k q h => by simp at h⟩
  have hl := lv_entry ([.ref ao, .ref ga, .ref ma, .ref mb]) (n := 4) (Nat.le_of_ble_eq_true rfl)
  rw [show entryFrame m args 4 = entryFrame m ([.ref ao, .ref ga, .ref ma, .ref mb] : List Value).toArray 4 from by rw [hav], lg_entry_eq]
  generalize (lg_sl ([.ref ao, .ref ga, .ref ma, .ref mb]) ++ List.replicate (4 - (lg_sl ([.ref ao, .ref ga, .ref ma, .ref mb])).length) Slot.unset).toArray = ls at hl ⊢
  have hl : lv_has ls 4 [(0, .ref ao), (1, .ref ga), (2, .ref ma), (3, .ref mb)] := hl
  generalize hQe : vx_MQ below _ _ _ s _ _ _ = Q
  change W p l e ({ frames := 9, cells := 8, slots := 152, locals := 540 } : Room) s m args below meth c s.heap [] 0 0 Q (F0 m 0 ls [])
  have hn := hAG.1
  have h5 := pow5 hn
  have hR2 := hAG.2.1
  refine lv_aload_n hx hb dX30_of_0 rfl (lv_at hl 1 rfl) ?_
  refine lv_aload_n hx hb dX30_of_1 rfl (lv_at hl 1 rfl) ?_
  refine lv_aload_n hx hb dX30_of_2 rfl (lv_at hl 1 rfl) ?_
  refine lv_aload_n hx hb dX30_of_3 rfl (lv_at hl 2 rfl) ?_
  refine lv_iconst (v := nI 0) hx hb dX30_of_4 (by decide) ?_
  have hF9 := va_free (wc := []) hD hS (fun q h => hA q h) [] rfl
  refine c_r (wr := []) (va_runV (As := [.ref ma, .int (nI 0)]) (rest := [.ref ga, .ref ga]) ⟨hx, hb, hml, hown, hts⟩ (x5_complement Z (va_A [] s.heap.size) s.heap.size (fun q h => Or.inr h) Y ga sg sr p0 q0 r0 ma mr M false hn sM) (cwV 2 hts (lw_V q707 q708 q709 q101 q710) rfl rfl rfl (by decide +kernel) ⟨Nat.le_of_ble_eq_true rfl, Nat.le_of_ble_eq_true rfl⟩) (gP_V (va_recv hK (hR2.up hS) (ci := 1) (q0 := 0) rfl rfl) hG hS (fun q _ h => hF9 q h) ⟨rfl, ((hR2.to hS (fun q _ h => hF9 q h)).sub [0] rfl), (hR0.to hS (fun q _ h => hF9 q h))⟩) rfl rfl hl.1 rfl (lv_room (Nat.le_of_ble_eq_true rfl)) dX30_of_5 ⟨by first | decide | omega | (show _ ≤ (8 : Nat); omega), by first | decide | omega | (show _ ≤ (152 : Nat); omega)⟩) hP hD hS hA [] [] rfl rfl (by decide) (by decide) (fun u9 ra9 H locs hq hX hz hk hP hD hS => ?_)
  obtain ⟨ra_1, rfl⟩ : ∃ z, z = ra9 := ⟨_, rfl⟩
  obtain ⟨mr_1, rfl⟩ : ∃ z, z = u9 := ⟨_, rfl⟩
  have hP : va_P (dC, dI) vwCl [(ra_1, .inr (0, [.ref mr_1, .long ((trnS (if false = true then 4 else 3) p0 q0 r0 M) 0)])), (mr_1, .inl (dA 1, 32, .inr (.inl (fun j => (trnS (if false = true then 4 else 3) p0 q0 r0 M) (j + 1)))))] H := hP
  have hD : va_D A [(ra_1, .inr (0, [.ref mr_1, .long ((trnS (if false = true then 4 else 3) p0 q0 r0 M) 0)])), (mr_1, .inl (dA 1, 32, .inr (.inl (fun j => (trnS (if false = true then 4 else 3) p0 q0 r0 M) (j + 1)))))] := hD
  have hP : va_P (dC, dI) vwCl [(ra_1, .inr (0, [.ref mr_1, .long ((trnS 3 p0 q0 r0 M) 0)])), (mr_1, .inl (dA 1, 32, .inr (.inl (fun j => (trnS 3 p0 q0 r0 M) (j + 1)))))] H := hP
  have hD : va_D A [(ra_1, .inr (0, [.ref mr_1, .long ((trnS 3 p0 q0 r0 M) 0)])), (mr_1, .inl (dA 1, 32, .inr (.inl (fun j => (trnS 3 p0 q0 r0 M) (j + 1)))))] := hD
  refine lv_aload_n hx hb dX30_of_8 rfl (lv_at hl 1 rfl) ?_
  refine lv_aload_n hx hb dX30_of_9 rfl (lv_at hl 3 rfl) ?_
  refine lv_iconst (v := nI 0) hx hb dX30_of_10 (by decide) ?_
  have hF9 := va_free (wc := []) hD hS (fun q h => hA q h) [] rfl
  refine c_r (wr := [(ra_1, .inr (0, [.ref mr_1, .long ((trnS 3 p0 q0 r0 M) 0)])), (mr_1, .inl (dA 1, 32, .inr (.inl (fun j => (trnS 3 p0 q0 r0 M) (j + 1)))))]) (va_runV (As := [.ref mb, .int (nI 0)]) (rest := [.ref ra_1, .ref ga, .ref ga]) ⟨hx, hb, hml, hown, hts⟩ (x5_complement Z (va_A [] H.size) H.size (fun q h => Or.inr h) Y ga sg sr p0 q0 r0 mb nr N false hn sN) (cwV 2 hts (lw_V q707 q708 q709 q101 q710) rfl rfl rfl (by decide +kernel) ⟨Nat.le_of_ble_eq_true rfl, Nat.le_of_ble_eq_true rfl⟩) (gP_V (va_recv hK (hR2.up hS) (ci := 1) (q0 := 0) rfl rfl) hG hS (fun q _ h => hF9 q h) ⟨rfl, ((hR2.to hS (fun q _ h => hF9 q h)).sub [0] rfl), (hR1.to hS (fun q _ h => hF9 q h))⟩) rfl rfl hl.1 rfl (lv_room (Nat.le_of_ble_eq_true rfl)) dX30_of_11 ⟨by first | decide | omega | (show _ ≤ (8 : Nat); omega), by first | decide | omega | (show _ ≤ (152 : Nat); omega)⟩) hP hD hS hA [] [0, 1] rfl rfl (by decide) (by decide) (fun u9 ra9 H locs hq hX hz hk hP hD hS => ?_)
  obtain ⟨ra_2, rfl⟩ : ∃ z, z = ra9 := ⟨_, rfl⟩
  obtain ⟨mr_2, rfl⟩ : ∃ z, z = u9 := ⟨_, rfl⟩
  have hP : va_P (dC, dI) vwCl [(ra_1, .inr (0, [.ref mr_1, .long ((trnS 3 p0 q0 r0 M) 0)])), (mr_1, .inl (dA 1, 32, .inr (.inl (fun j => (trnS 3 p0 q0 r0 M) (j + 1))))), (ra_2, .inr (0, [.ref mr_2, .long ((trnS (if false = true then 4 else 3) p0 q0 r0 N) 0)])), (mr_2, .inl (dA 1, 32, .inr (.inl (fun j => (trnS (if false = true then 4 else 3) p0 q0 r0 N) (j + 1)))))] H := hP
  have hD : va_D A [(ra_1, .inr (0, [.ref mr_1, .long ((trnS 3 p0 q0 r0 M) 0)])), (mr_1, .inl (dA 1, 32, .inr (.inl (fun j => (trnS 3 p0 q0 r0 M) (j + 1))))), (ra_2, .inr (0, [.ref mr_2, .long ((trnS (if false = true then 4 else 3) p0 q0 r0 N) 0)])), (mr_2, .inl (dA 1, 32, .inr (.inl (fun j => (trnS (if false = true then 4 else 3) p0 q0 r0 N) (j + 1)))))] := hD
  have hP : va_P (dC, dI) vwCl [(ra_1, .inr (0, [.ref mr_1, .long ((trnS 3 p0 q0 r0 M) 0)])), (mr_1, .inl (dA 1, 32, .inr (.inl (fun j => (trnS 3 p0 q0 r0 M) (j + 1))))), (ra_2, .inr (0, [.ref mr_2, .long ((trnS 3 p0 q0 r0 N) 0)])), (mr_2, .inl (dA 1, 32, .inr (.inl (fun j => (trnS 3 p0 q0 r0 N) (j + 1)))))] H := hP
  have hD : va_D A [(ra_1, .inr (0, [.ref mr_1, .long ((trnS 3 p0 q0 r0 M) 0)])), (mr_1, .inl (dA 1, 32, .inr (.inl (fun j => (trnS 3 p0 q0 r0 M) (j + 1))))), (ra_2, .inr (0, [.ref mr_2, .long ((trnS 3 p0 q0 r0 N) 0)])), (mr_2, .inl (dA 1, 32, .inr (.inl (fun j => (trnS 3 p0 q0 r0 N) (j + 1)))))] := hD
  refine va_gets (v := .ref (σ (10 + 1))) hx hb (hG.Z Z (SS.pr Y 1 (by decide)).1) hS hown (hts _ q719) (fun _ h9 => h9) dX30_of_14 ?_
  have hF9 := va_free (wc := []) hD hS (fun q h => hA q h) [] rfl
  refine x_r (wc := []) (wr := [(ra_1, .inr (0, [.ref mr_1, .long ((trnS 3 p0 q0 r0 M) 0)])), (mr_1, .inl (dA 1, 32, .inr (.inl (fun j => (trnS 3 p0 q0 r0 M) (j + 1))))), (ra_2, .inr (0, [.ref mr_2, .long ((trnS 3 p0 q0 r0 N) 0)])), (mr_2, .inl (dA 1, 32, .inr (.inl (fun j => (trnS 3 p0 q0 r0 N) (j + 1)))))]) (vx_runV (As := [.ref ra_1, .ref ra_2, .ref (σ (10 + 1))]) (rest := [.ref ga]) ⟨hx, hb, hml, hown, hts⟩ (x5_product Z (va_A [] H.size) H.size (fun q h => Or.inr h) Y ga sg sr p0 q0 r0 ra_1 mr_1 (trnS 3 p0 q0 r0 M) ra_2 mr_2 (trnS 3 p0 q0 r0 N) 1 (by omega) (trnS_sm hn sM) (trnS_sm hn sN)) (cwV 3 hts (lw_V q720 q658 q659 q101 q660) rfl rfl rfl (by decide +kernel) ⟨Nat.le_of_ble_eq_true rfl, Nat.le_of_ble_eq_true rfl⟩) (gP_V (va_recv hK (hR2.up hS) (ci := 1) (q0 := 0) rfl rfl) hG hS (fun q _ h => hF9 q h) ⟨rfl, (RO.beside (wr := [(ra_1, .inr (0, [.ref mr_1, .long ((trnS 3 p0 q0 r0 M) 0)])), (mr_1, .inl (dA 1, 32, .inr (.inl (fun j => (trnS 3 p0 q0 r0 M) (j + 1)))))]) hP hD [] [0, 1] rfl rfl (by decide)), (RO.beside (wr := [(ra_2, .inr (0, [.ref mr_2, .long ((trnS 3 p0 q0 r0 N) 0)])), (mr_2, .inl (dA 1, 32, .inr (.inl (fun j => (trnS 3 p0 q0 r0 N) (j + 1)))))]) hP hD [] [2, 3] rfl rfl (by decide)), (hAG.to hS (fun q _ h => hF9 q h))⟩) rfl rfl hl.1 rfl (lv_room (Nat.le_of_ble_eq_true rfl)) dX30_of_17 ⟨by first | decide | omega | (show _ ≤ (8 : Nat); omega), by first | decide | omega | (show _ ≤ (152 : Nat); omega)⟩) hP hD hS hA [] [0, 1, 2, 3] rfl rfl (by decide) (by decide) (fun E ce q9 u9 t9 H locs ht9 hp9 hb9 hz hP hS h1 h2 h3 => ?_) (fun u9 ra9 H locs hq hX hz hk hP hD hS => ?_)
  · have hD := hD.sub (ws' := [(ra_1, .inr (0, [.ref mr_1, .long ((trnS 3 p0 q0 r0 M) 0)])), (mr_1, .inl (dA 1, 32, .inr (.inl (fun j => (trnS 3 p0 q0 r0 M) (j + 1))))), (ra_2, .inr (0, [.ref mr_2, .long ((trnS 3 p0 q0 r0 N) 0)])), (mr_2, .inl (dA 1, 32, .inr (.inl (fun j => (trnS 3 p0 q0 r0 N) (j + 1)))))]) [0, 1, 2, 3] (by decide) rfl
    have hP : va_P (dC, dI) vwCl [(ra_1, .inr (0, [.ref mr_1, .long ((trnS 3 p0 q0 r0 M) 0)])), (mr_1, .inl (dA 1, 32, .inr (.inl (fun j => (trnS 3 p0 q0 r0 M) (j + 1))))), (ra_2, .inr (0, [.ref mr_2, .long ((trnS 3 p0 q0 r0 N) 0)])), (mr_2, .inl (dA 1, 32, .inr (.inl (fun j => (trnS 3 p0 q0 r0 N) (j + 1)))))] H := hP
    have hD : va_D A [(ra_1, .inr (0, [.ref mr_1, .long ((trnS 3 p0 q0 r0 M) 0)])), (mr_1, .inl (dA 1, 32, .inr (.inl (fun j => (trnS 3 p0 q0 r0 M) (j + 1))))), (ra_2, .inr (0, [.ref mr_2, .long ((trnS 3 p0 q0 r0 N) 0)])), (mr_2, .inl (dA 1, 32, .inr (.inl (fun j => (trnS 3 p0 q0 r0 N) (j + 1)))))] := hD
    subst hb9
    subst hQe
    exact vx_out (fun x h => (hnoH x h).elim) hlocks h1 h2 h3 (fun t10 e10 _ => ⟨(), meet_n hp9, rfl, hS.F e10⟩) hS.2.2 (by first | decide | omega) (by first | decide | omega)
  obtain ⟨ra_3, rfl⟩ : ∃ z, z = ra9 := ⟨_, rfl⟩
  obtain ⟨mr_3, M_3⟩ := u9
  have e_3 := hq
  have sm_3 : MSm M_3 := mulS_sm (trnS_sm hn sM) (trnS_sm hn sN) e_3
  clear hq
  have hP : va_P (dC, dI) vwCl [(ra_1, .inr (0, [.ref mr_1, .long ((trnS 3 p0 q0 r0 M) 0)])), (mr_1, .inl (dA 1, 32, .inr (.inl (fun j => (trnS 3 p0 q0 r0 M) (j + 1))))), (ra_2, .inr (0, [.ref mr_2, .long ((trnS 3 p0 q0 r0 N) 0)])), (mr_2, .inl (dA 1, 32, .inr (.inl (fun j => (trnS 3 p0 q0 r0 N) (j + 1))))), (ra_3, .inr (0, [.ref mr_3, .long (M_3 0)])), (mr_3, .inl (dA 1, 32, .inr (.inl (fun j => M_3 (j + 1)))))] H := hP
  have hD : va_D A [(ra_1, .inr (0, [.ref mr_1, .long ((trnS 3 p0 q0 r0 M) 0)])), (mr_1, .inl (dA 1, 32, .inr (.inl (fun j => (trnS 3 p0 q0 r0 M) (j + 1))))), (ra_2, .inr (0, [.ref mr_2, .long ((trnS 3 p0 q0 r0 N) 0)])), (mr_2, .inl (dA 1, 32, .inr (.inl (fun j => (trnS 3 p0 q0 r0 N) (j + 1))))), (ra_3, .inr (0, [.ref mr_3, .long (M_3 0)])), (mr_3, .inl (dA 1, 32, .inr (.inl (fun j => M_3 (j + 1)))))] := hD
  refine lv_iconst (v := nI 1) hx hb dX30_of_20 (by decide) ?_
  have hF9 := va_free (wc := []) hD hS (fun q h => hA q h) [] rfl
  refine c_r (wr := [(ra_1, .inr (0, [.ref mr_1, .long ((trnS 3 p0 q0 r0 M) 0)])), (mr_1, .inl (dA 1, 32, .inr (.inl (fun j => (trnS 3 p0 q0 r0 M) (j + 1))))), (ra_2, .inr (0, [.ref mr_2, .long ((trnS 3 p0 q0 r0 N) 0)])), (mr_2, .inl (dA 1, 32, .inr (.inl (fun j => (trnS 3 p0 q0 r0 N) (j + 1))))), (ra_3, .inr (0, [.ref mr_3, .long (M_3 0)])), (mr_3, .inl (dA 1, 32, .inr (.inl (fun j => M_3 (j + 1)))))]) (va_runV (As := [.ref ra_3, .int (nI 1)]) (rest := []) ⟨hx, hb, hml, hown, hts⟩ (x5_complement Z (va_A [] H.size) H.size (fun q h => Or.inr h) Y ga sg sr p0 q0 r0 ra_3 mr_3 M_3 true hn sm_3) (cwV 2 hts (lw_V q707 q708 q709 q101 q710) rfl rfl rfl (by decide +kernel) ⟨Nat.le_of_ble_eq_true rfl, Nat.le_of_ble_eq_true rfl⟩) (gP_V (va_recv hK (hR2.up hS) (ci := 1) (q0 := 0) rfl rfl) hG hS (fun q _ h => hF9 q h) ⟨rfl, ((hR2.to hS (fun q _ h => hF9 q h)).sub [0] rfl), (RO.beside (wr := [(ra_3, .inr (0, [.ref mr_3, .long (M_3 0)])), (mr_3, .inl (dA 1, 32, .inr (.inl (fun j => M_3 (j + 1)))))]) hP hD [] [4, 5] rfl rfl (by decide))⟩) rfl rfl hl.1 rfl (lv_room (Nat.le_of_ble_eq_true rfl)) dX30_of_21 ⟨by first | decide | omega | (show _ ≤ (8 : Nat); omega), by first | decide | omega | (show _ ≤ (152 : Nat); omega)⟩) hP hD hS hA [] [0, 1, 2, 3, 4, 5] rfl rfl (by decide) (by decide) (fun u9 ra9 H locs hq hX hz hk hP hD hS => ?_)
  obtain ⟨ra_4, rfl⟩ : ∃ z, z = ra9 := ⟨_, rfl⟩
  obtain ⟨mr_4, rfl⟩ : ∃ z, z = u9 := ⟨_, rfl⟩
  have hP : va_P (dC, dI) vwCl [(ra_1, .inr (0, [.ref mr_1, .long ((trnS 3 p0 q0 r0 M) 0)])), (mr_1, .inl (dA 1, 32, .inr (.inl (fun j => (trnS 3 p0 q0 r0 M) (j + 1))))), (ra_2, .inr (0, [.ref mr_2, .long ((trnS 3 p0 q0 r0 N) 0)])), (mr_2, .inl (dA 1, 32, .inr (.inl (fun j => (trnS 3 p0 q0 r0 N) (j + 1))))), (ra_3, .inr (0, [.ref mr_3, .long (M_3 0)])), (mr_3, .inl (dA 1, 32, .inr (.inl (fun j => M_3 (j + 1))))), (ra_4, .inr (0, [.ref mr_4, .long ((trnS (if true = true then 4 else 3) p0 q0 r0 M_3) 0)])), (mr_4, .inl (dA 1, 32, .inr (.inl (fun j => (trnS (if true = true then 4 else 3) p0 q0 r0 M_3) (j + 1)))))] H := hP
  have hD : va_D A [(ra_1, .inr (0, [.ref mr_1, .long ((trnS 3 p0 q0 r0 M) 0)])), (mr_1, .inl (dA 1, 32, .inr (.inl (fun j => (trnS 3 p0 q0 r0 M) (j + 1))))), (ra_2, .inr (0, [.ref mr_2, .long ((trnS 3 p0 q0 r0 N) 0)])), (mr_2, .inl (dA 1, 32, .inr (.inl (fun j => (trnS 3 p0 q0 r0 N) (j + 1))))), (ra_3, .inr (0, [.ref mr_3, .long (M_3 0)])), (mr_3, .inl (dA 1, 32, .inr (.inl (fun j => M_3 (j + 1))))), (ra_4, .inr (0, [.ref mr_4, .long ((trnS (if true = true then 4 else 3) p0 q0 r0 M_3) 0)])), (mr_4, .inl (dA 1, 32, .inr (.inl (fun j => (trnS (if true = true then 4 else 3) p0 q0 r0 M_3) (j + 1)))))] := hD
  have hP : va_P (dC, dI) vwCl [(ra_1, .inr (0, [.ref mr_1, .long ((trnS 3 p0 q0 r0 M) 0)])), (mr_1, .inl (dA 1, 32, .inr (.inl (fun j => (trnS 3 p0 q0 r0 M) (j + 1))))), (ra_2, .inr (0, [.ref mr_2, .long ((trnS 3 p0 q0 r0 N) 0)])), (mr_2, .inl (dA 1, 32, .inr (.inl (fun j => (trnS 3 p0 q0 r0 N) (j + 1))))), (ra_3, .inr (0, [.ref mr_3, .long (M_3 0)])), (mr_3, .inl (dA 1, 32, .inr (.inl (fun j => M_3 (j + 1))))), (ra_4, .inr (0, [.ref mr_4, .long ((trnS 4 p0 q0 r0 M_3) 0)])), (mr_4, .inl (dA 1, 32, .inr (.inl (fun j => (trnS 4 p0 q0 r0 M_3) (j + 1)))))] H := hP
  have hD : va_D A [(ra_1, .inr (0, [.ref mr_1, .long ((trnS 3 p0 q0 r0 M) 0)])), (mr_1, .inl (dA 1, 32, .inr (.inl (fun j => (trnS 3 p0 q0 r0 M) (j + 1))))), (ra_2, .inr (0, [.ref mr_2, .long ((trnS 3 p0 q0 r0 N) 0)])), (mr_2, .inl (dA 1, 32, .inr (.inl (fun j => (trnS 3 p0 q0 r0 N) (j + 1))))), (ra_3, .inr (0, [.ref mr_3, .long (M_3 0)])), (mr_3, .inl (dA 1, 32, .inr (.inl (fun j => M_3 (j + 1))))), (ra_4, .inr (0, [.ref mr_4, .long ((trnS 4 p0 q0 r0 M_3) 0)])), (mr_4, .inl (dA 1, 32, .inr (.inl (fun j => (trnS 4 p0 q0 r0 M_3) (j + 1)))))] := hD
  subst hQe
  refine vx_ret ?_
  refine W.widen (k := 8) (n := 152) (by first | decide | omega) (by first | decide | omega) ?_
  exact W.aret (v := .ref ra_4) hx hb hr (Or.inl ⟨_, rfl⟩) (Or.inr ⟨_, rfl⟩) (fun tz ht hW => ⟨⟨(mr_4, trnS 4 p0 q0 r0 M_3), ra_4, rfl, (meet_s e_3), B1r_at ht (hP.sub [6, 7] rfl) (hD.sub [6, 7] (by decide) rfl) trivial⟩, hS.F ht⟩) hS.2.2 dX30_of_24
set_option maxHeartbeats 4000000 in
theorem xt8 {l : Launch} {dC : Nat → ClassId} {dI : Nat → Nat → Nat} {dA : Nat → ClassId} {s0 : State} {b0 : Addr} (Z : Z0 l dC dI dA s0 b0) (A : Nat → Prop) (sz : Nat) (hA : ∀ q : Nat, sz ≤ q → A q) {σ : Nat → Nat} (Y : SS (dC, dI) dA σ s0) (ao : Nat) (ga sg : Nat) (sr : Nat → Nat) (p0 q0 r0 : Nat) (ma mr : Nat) (M : MV) (mb nr : Nat) (N : MV) (sM : MSm M) (sN : MSm N) : vx_Met l yX31_of (ws_ yX31_of cX31_of 4 (some (.object "BladeAlgebra$Multi"))) ({ frames := 9, cells := 8, slots := 152, locals := 540 } : Room) (gP [.ref ao, .ref ga, .ref ma, .ref mb] s0 A (fun H => H.size = sz ∧ RO A (dC, dI) [(ma, .inr (0, [.ref mr, .long (M 0)])), (mr, .inl (dA 1, 32, .inr (.inl (fun j => M (j + 1)))))] H ∧ RO A (dC, dI) [(mb, .inr (0, [.ref nr, .long (N 0)])), (nr, .inl (dA 1, 32, .inr (.inl (fun j => N (j + 1)))))] H ∧ AG A (dC, dI) dA ga sg sr p0 q0 r0 H)) (va_Qr (S := Nat × MV) (fun u => cmbS 8 p0 q0 r0 M N = some u.2) (B1r (dC, dI) A (fun u q => MA dA q u.1 u.2) (fun _ _ _ => True)) A) (vx_X (S := Unit) (fun _ => cmbS 8 p0 q0 r0 M N = none) (fun _ E _ _ => E = "BladeAlgebra$Unfit") A) 8 152 A := by
  refine vx_ofW (cc := cX31_of) (maxL := 4) (ret := (some (.object "BladeAlgebra$Multi"))) (by decide) rfl ?_
  intro p e s m args below meth c s₁ B hml hnoH hv
  obtain ⟨hav, hG, hsz, hR0, hR1, hAG⟩ := hv
  have hx := B.exec
  have hb := B.bytes
  have hr := B.returns
  have hts := atoms_spec (ws := (ws_ yX31_of cX31_of 4 (some (.object "BladeAlgebra$Multi")))) B.pre
  have hts : ∀ w ∈ lw_all, w.before _ s = true := fun w h => hts w (List.mem_cons_of_mem _ h)
  have hown : s.vm.findClass RX31 = some m.cls := findClass_of_methodNamed B.named
  have hlocks := B.notSynchronized
  have hK := hG.K Z
  subst hsz
  have hS : va_S A s.heap s.heap [] := va_S.rf
  have hP : va_P (dC, dI) vwCl [] s.heap := fun k q h => by simp at h
  have hD : va_D A [] := ⟨fun i j p q h => by simp at h, fun k q h => by simp at h⟩
  have hl := lv_entry ([.ref ao, .ref ga, .ref ma, .ref mb]) (n := 4) (Nat.le_of_ble_eq_true rfl)
  rw [show entryFrame m args 4 = entryFrame m ([.ref ao, .ref ga, .ref ma, .ref mb] : List Value).toArray 4 from by rw [hav], lg_entry_eq]
  generalize (lg_sl ([.ref ao, .ref ga, .ref ma, .ref mb]) ++ List.replicate (4 - (lg_sl ([.ref ao, .ref ga, .ref ma, .ref mb])).length) Slot.unset).toArray = ls at hl ⊢
  have hl : lv_has ls 4 [(0, .ref ao), (1, .ref ga), (2, .ref ma), (3, .ref mb)] := hl
  generalize hQe : vx_MQ below _ _ _ s _ _ _ = Q
  change W p l e ({ frames := 9, cells := 8, slots := 152, locals := 540 } : Room) s m args below meth c s.heap [] 0 0 Q (F0 m 0 ls [])
  have hn := hAG.1
  have h5 := pow5 hn
  have hR2 := hAG.2.1
  refine lv_aload_n hx hb dX31_of_0 rfl (lv_at hl 1 rfl) ?_
  refine lv_aload_n hx hb dX31_of_1 rfl (lv_at hl 2 rfl) ?_
  refine lv_aload_n hx hb dX31_of_2 rfl (lv_at hl 3 rfl) ?_
  have hF9 := va_free (wc := []) hD hS (fun q h => hA q h) [] rfl
  refine x_r (wc := []) (wr := []) (vx_runV (As := [.ref ma, .ref mb]) (rest := []) ⟨hx, hb, hml, hown, hts⟩ (x5_product2 Z (va_A [] s.heap.size) s.heap.size (fun q h => Or.inr h) Y ga sg sr p0 q0 r0 ma mr M mb nr N sM sN) (cwV 2 hts (lw_V q724 q652 q653 q101 q654) rfl rfl rfl (by decide +kernel) ⟨Nat.le_of_ble_eq_true rfl, Nat.le_of_ble_eq_true rfl⟩) (gP_V (va_recv hK (hR2.up hS) (ci := 1) (q0 := 0) rfl rfl) hG hS (fun q _ h => hF9 q h) ⟨rfl, (hR0.to hS (fun q _ h => hF9 q h)), (hR1.to hS (fun q _ h => hF9 q h)), (hAG.to hS (fun q _ h => hF9 q h))⟩) rfl rfl hl.1 rfl (lv_room (Nat.le_of_ble_eq_true rfl)) dX31_of_3 ⟨by first | decide | omega | (show _ ≤ (8 : Nat); omega), by first | decide | omega | (show _ ≤ (152 : Nat); omega)⟩) hP hD hS hA [] [] rfl rfl (by decide) (by decide) (fun E ce q9 u9 t9 H locs ht9 hp9 hb9 hz hP hS h1 h2 h3 => ?_) (fun u9 ra9 H locs hq hX hz hk hP hD hS => ?_)
  · have hD := hD.sub (ws' := []) [] (by decide) rfl
    have hP : va_P (dC, dI) vwCl [] H := hP
    have hD : va_D A [] := hD
    subst hb9
    subst hQe
    exact vx_out (fun x h => (hnoH x h).elim) hlocks h1 h2 h3 (fun t10 e10 _ => ⟨(), com_n1 hp9, rfl, hS.F e10⟩) hS.2.2 (by first | decide | omega) (by first | decide | omega)
  obtain ⟨ra_1, rfl⟩ : ∃ z, z = ra9 := ⟨_, rfl⟩
  obtain ⟨mr_1, M_1⟩ := u9
  have e_1 := hq
  have sm_1 : MSm M_1 := mulS_sm sM sN e_1
  clear hq
  have hP : va_P (dC, dI) vwCl [(ra_1, .inr (0, [.ref mr_1, .long (M_1 0)])), (mr_1, .inl (dA 1, 32, .inr (.inl (fun j => M_1 (j + 1)))))] H := hP
  have hD : va_D A [(ra_1, .inr (0, [.ref mr_1, .long (M_1 0)])), (mr_1, .inl (dA 1, 32, .inr (.inl (fun j => M_1 (j + 1)))))] := hD
  refine lv_aload_n hx hb dX31_of_6 rfl (lv_at hl 1 rfl) ?_
  refine lv_aload_n hx hb dX31_of_7 rfl (lv_at hl 3 rfl) ?_
  refine lv_aload_n hx hb dX31_of_8 rfl (lv_at hl 2 rfl) ?_
  have hF9 := va_free (wc := []) hD hS (fun q h => hA q h) [] rfl
  refine x_r (wc := []) (wr := [(ra_1, .inr (0, [.ref mr_1, .long (M_1 0)])), (mr_1, .inl (dA 1, 32, .inr (.inl (fun j => M_1 (j + 1)))))]) (vx_runV (As := [.ref mb, .ref ma]) (rest := [.ref ra_1]) ⟨hx, hb, hml, hown, hts⟩ (x5_product2 Z (va_A [] H.size) H.size (fun q h => Or.inr h) Y ga sg sr p0 q0 r0 mb nr N ma mr M sN sM) (cwV 2 hts (lw_V q724 q652 q653 q101 q654) rfl rfl rfl (by decide +kernel) ⟨Nat.le_of_ble_eq_true rfl, Nat.le_of_ble_eq_true rfl⟩) (gP_V (va_recv hK (hR2.up hS) (ci := 1) (q0 := 0) rfl rfl) hG hS (fun q _ h => hF9 q h) ⟨rfl, (hR1.to hS (fun q _ h => hF9 q h)), (hR0.to hS (fun q _ h => hF9 q h)), (hAG.to hS (fun q _ h => hF9 q h))⟩) rfl rfl hl.1 rfl (lv_room (Nat.le_of_ble_eq_true rfl)) dX31_of_9 ⟨by first | decide | omega | (show _ ≤ (8 : Nat); omega), by first | decide | omega | (show _ ≤ (152 : Nat); omega)⟩) hP hD hS hA [] [0, 1] rfl rfl (by decide) (by decide) (fun E ce q9 u9 t9 H locs ht9 hp9 hb9 hz hP hS h1 h2 h3 => ?_) (fun u9 ra9 H locs hq hX hz hk hP hD hS => ?_)
  · have hD := hD.sub (ws' := [(ra_1, .inr (0, [.ref mr_1, .long (M_1 0)])), (mr_1, .inl (dA 1, 32, .inr (.inl (fun j => M_1 (j + 1)))))]) [0, 1] (by decide) rfl
    have hP : va_P (dC, dI) vwCl [(ra_1, .inr (0, [.ref mr_1, .long (M_1 0)])), (mr_1, .inl (dA 1, 32, .inr (.inl (fun j => M_1 (j + 1)))))] H := hP
    have hD : va_D A [(ra_1, .inr (0, [.ref mr_1, .long (M_1 0)])), (mr_1, .inl (dA 1, 32, .inr (.inl (fun j => M_1 (j + 1)))))] := hD
    subst hb9
    subst hQe
    exact vx_out (fun x h => (hnoH x h).elim) hlocks h1 h2 h3 (fun t10 e10 _ => ⟨(), com_n2 e_1 hp9, rfl, hS.F e10⟩) hS.2.2 (by first | decide | omega) (by first | decide | omega)
  obtain ⟨ra_2, rfl⟩ : ∃ z, z = ra9 := ⟨_, rfl⟩
  obtain ⟨mr_2, M_2⟩ := u9
  have e_2 := hq
  have sm_2 : MSm M_2 := mulS_sm sN sM e_2
  clear hq
  have hP : va_P (dC, dI) vwCl [(ra_1, .inr (0, [.ref mr_1, .long (M_1 0)])), (mr_1, .inl (dA 1, 32, .inr (.inl (fun j => M_1 (j + 1))))), (ra_2, .inr (0, [.ref mr_2, .long (M_2 0)])), (mr_2, .inl (dA 1, 32, .inr (.inl (fun j => M_2 (j + 1)))))] H := hP
  have hD : va_D A [(ra_1, .inr (0, [.ref mr_1, .long (M_1 0)])), (mr_1, .inl (dA 1, 32, .inr (.inl (fun j => M_1 (j + 1))))), (ra_2, .inr (0, [.ref mr_2, .long (M_2 0)])), (mr_2, .inl (dA 1, 32, .inr (.inl (fun j => M_2 (j + 1)))))] := hD
  refine lv_iconst (v := (-1)) hx hb dX31_of_12 (by decide) ?_
  have hF9 := va_free (wc := []) hD hS (fun q h => hA q h) [] rfl
  refine x_r (wc := []) (wr := [(ra_1, .inr (0, [.ref mr_1, .long (M_1 0)])), (mr_1, .inl (dA 1, 32, .inr (.inl (fun j => M_1 (j + 1))))), (ra_2, .inr (0, [.ref mr_2, .long (M_2 0)])), (mr_2, .inl (dA 1, 32, .inr (.inl (fun j => M_2 (j + 1)))))]) (vx_runV (As := [.ref ra_2, .int (-1)]) (rest := []) ⟨hx, hb, hml, hown, hts⟩ (x6_plus Z (va_A [] H.size) H.size (fun q h => Or.inr h) Y ra_1 mr_1 M_1 ra_2 mr_2 M_2 (-1) (Or.inr (Or.inl rfl)) sm_1 sm_2) (cwV 2 hts (lw_V q725 q641 q642 q102 q643) rfl rfl rfl (by decide +kernel) ⟨Nat.le_of_ble_eq_true rfl, Nat.le_of_ble_eq_true rfl⟩) (gP_V (va_recv hK hP (ci := 0) (q0 := 0) rfl rfl) hG hS (fun q _ h => hF9 q h) ⟨rfl, (RO.beside (wr := [(ra_1, .inr (0, [.ref mr_1, .long (M_1 0)])), (mr_1, .inl (dA 1, 32, .inr (.inl (fun j => M_1 (j + 1)))))]) hP hD [] [0, 1] rfl rfl (by decide)), (RO.beside (wr := [(ra_2, .inr (0, [.ref mr_2, .long (M_2 0)])), (mr_2, .inl (dA 1, 32, .inr (.inl (fun j => M_2 (j + 1)))))]) hP hD [] [2, 3] rfl rfl (by decide))⟩) rfl rfl hl.1 rfl (lv_room (Nat.le_of_ble_eq_true rfl)) dX31_of_13 ⟨by first | decide | omega | (show _ ≤ (8 : Nat); omega), by first | decide | omega | (show _ ≤ (152 : Nat); omega)⟩) hP hD hS hA [] [0, 1, 2, 3] rfl rfl (by decide) (by decide) (fun E ce q9 u9 t9 H locs ht9 hp9 hb9 hz hP hS h1 h2 h3 => ?_) (fun u9 ra9 H locs hq hX hz hk hP hD hS => ?_)
  · have hD := hD.sub (ws' := [(ra_1, .inr (0, [.ref mr_1, .long (M_1 0)])), (mr_1, .inl (dA 1, 32, .inr (.inl (fun j => M_1 (j + 1))))), (ra_2, .inr (0, [.ref mr_2, .long (M_2 0)])), (mr_2, .inl (dA 1, 32, .inr (.inl (fun j => M_2 (j + 1)))))]) [0, 1, 2, 3] (by decide) rfl
    have hP : va_P (dC, dI) vwCl [(ra_1, .inr (0, [.ref mr_1, .long (M_1 0)])), (mr_1, .inl (dA 1, 32, .inr (.inl (fun j => M_1 (j + 1))))), (ra_2, .inr (0, [.ref mr_2, .long (M_2 0)])), (mr_2, .inl (dA 1, 32, .inr (.inl (fun j => M_2 (j + 1)))))] H := hP
    have hD : va_D A [(ra_1, .inr (0, [.ref mr_1, .long (M_1 0)])), (mr_1, .inl (dA 1, 32, .inr (.inl (fun j => M_1 (j + 1))))), (ra_2, .inr (0, [.ref mr_2, .long (M_2 0)])), (mr_2, .inl (dA 1, 32, .inr (.inl (fun j => M_2 (j + 1)))))] := hD
    subst hb9
    subst hQe
    exact vx_out (fun x h => (hnoH x h).elim) hlocks h1 h2 h3 (fun t10 e10 _ => ⟨(), com_n3 e_1 e_2 hp9, rfl, hS.F e10⟩) hS.2.2 (by first | decide | omega) (by first | decide | omega)
  obtain ⟨ra_3, rfl⟩ : ∃ z, z = ra9 := ⟨_, rfl⟩
  obtain ⟨mr_3, M_3⟩ := u9
  have e_3 := hq
  have sm_3 : MSm M_3 := addS_sm sm_1 sm_2 e_3
  clear hq
  have hP : va_P (dC, dI) vwCl [(ra_1, .inr (0, [.ref mr_1, .long (M_1 0)])), (mr_1, .inl (dA 1, 32, .inr (.inl (fun j => M_1 (j + 1))))), (ra_2, .inr (0, [.ref mr_2, .long (M_2 0)])), (mr_2, .inl (dA 1, 32, .inr (.inl (fun j => M_2 (j + 1))))), (ra_3, .inr (0, [.ref mr_3, .long (M_3 0)])), (mr_3, .inl (dA 1, 32, .inr (.inl (fun j => M_3 (j + 1)))))] H := hP
  have hD : va_D A [(ra_1, .inr (0, [.ref mr_1, .long (M_1 0)])), (mr_1, .inl (dA 1, 32, .inr (.inl (fun j => M_1 (j + 1))))), (ra_2, .inr (0, [.ref mr_2, .long (M_2 0)])), (mr_2, .inl (dA 1, 32, .inr (.inl (fun j => M_2 (j + 1))))), (ra_3, .inr (0, [.ref mr_3, .long (M_3 0)])), (mr_3, .inl (dA 1, 32, .inr (.inl (fun j => M_3 (j + 1)))))] := hD
  refine lv_lconst (v := 1) hx hb dX31_of_16 rfl ?_
  refine lv_ldc2 hx hb hown (hts _ q726) dX31_of_17 ?_
  have hF9 := va_free (wc := []) hD hS (fun q h => hA q h) [] rfl
  refine x_r (wc := []) (wr := [(ra_1, .inr (0, [.ref mr_1, .long (M_1 0)])), (mr_1, .inl (dA 1, 32, .inr (.inl (fun j => M_1 (j + 1))))), (ra_2, .inr (0, [.ref mr_2, .long (M_2 0)])), (mr_2, .inl (dA 1, 32, .inr (.inl (fun j => M_2 (j + 1))))), (ra_3, .inr (0, [.ref mr_3, .long (M_3 0)])), (mr_3, .inl (dA 1, 32, .inr (.inl (fun j => M_3 (j + 1)))))]) (vx_runV (As := [.long 1, .long (2 : Int64)]) (rest := []) ⟨hx, hb, hml, hown, hts⟩ (x6_times Z (va_A [] H.size) H.size (fun q h => Or.inr h) Y ra_3 mr_3 M_3 1 (2 : Int64) ⟨by decide, by decide⟩ ⟨by decide, by decide⟩ (by decide) sm_3) (cwV 2 hts (lw_V q727 q728 q729 q102 q730) rfl rfl rfl (by decide +kernel) ⟨Nat.le_of_ble_eq_true rfl, Nat.le_of_ble_eq_true rfl⟩) (gP_V (va_recv hK hP (ci := 0) (q0 := 4) rfl rfl) hG hS (fun q _ h => hF9 q h) ⟨rfl, (RO.beside (wr := [(ra_3, .inr (0, [.ref mr_3, .long (M_3 0)])), (mr_3, .inl (dA 1, 32, .inr (.inl (fun j => M_3 (j + 1)))))]) hP hD [] [4, 5] rfl rfl (by decide))⟩) rfl rfl hl.1 rfl (lv_room (Nat.le_of_ble_eq_true rfl)) dX31_of_20 ⟨by first | decide | omega | (show _ ≤ (8 : Nat); omega), by first | decide | omega | (show _ ≤ (152 : Nat); omega)⟩) hP hD hS hA [] [0, 1, 2, 3, 4, 5] rfl rfl (by decide) (by decide) (fun E ce q9 u9 t9 H locs ht9 hp9 hb9 hz hP hS h1 h2 h3 => ?_) (fun u9 ra9 H locs hq hX hz hk hP hD hS => ?_)
  · have hD := hD.sub (ws' := [(ra_1, .inr (0, [.ref mr_1, .long (M_1 0)])), (mr_1, .inl (dA 1, 32, .inr (.inl (fun j => M_1 (j + 1))))), (ra_2, .inr (0, [.ref mr_2, .long (M_2 0)])), (mr_2, .inl (dA 1, 32, .inr (.inl (fun j => M_2 (j + 1))))), (ra_3, .inr (0, [.ref mr_3, .long (M_3 0)])), (mr_3, .inl (dA 1, 32, .inr (.inl (fun j => M_3 (j + 1)))))]) [0, 1, 2, 3, 4, 5] (by decide) rfl
    have hP : va_P (dC, dI) vwCl [(ra_1, .inr (0, [.ref mr_1, .long (M_1 0)])), (mr_1, .inl (dA 1, 32, .inr (.inl (fun j => M_1 (j + 1))))), (ra_2, .inr (0, [.ref mr_2, .long (M_2 0)])), (mr_2, .inl (dA 1, 32, .inr (.inl (fun j => M_2 (j + 1))))), (ra_3, .inr (0, [.ref mr_3, .long (M_3 0)])), (mr_3, .inl (dA 1, 32, .inr (.inl (fun j => M_3 (j + 1)))))] H := hP
    have hD : va_D A [(ra_1, .inr (0, [.ref mr_1, .long (M_1 0)])), (mr_1, .inl (dA 1, 32, .inr (.inl (fun j => M_1 (j + 1))))), (ra_2, .inr (0, [.ref mr_2, .long (M_2 0)])), (mr_2, .inl (dA 1, 32, .inr (.inl (fun j => M_2 (j + 1))))), (ra_3, .inr (0, [.ref mr_3, .long (M_3 0)])), (mr_3, .inl (dA 1, 32, .inr (.inl (fun j => M_3 (j + 1)))))] := hD
    subst hb9
    subst hQe
    exact vx_out (fun x h => (hnoH x h).elim) hlocks h1 h2 h3 (fun t10 e10 _ => ⟨(), com_n4 e_1 e_2 e_3 hp9, rfl, hS.F e10⟩) hS.2.2 (by first | decide | omega) (by first | decide | omega)
  obtain ⟨ra_4, rfl⟩ : ∃ z, z = ra9 := ⟨_, rfl⟩
  obtain ⟨mr_4, M_4⟩ := u9
  have e_4 := hq
  have sm_4 : MSm M_4 := scaS_sm ⟨by decide, by decide⟩ (by decide) sm_3 e_4
  clear hq
  have hP : va_P (dC, dI) vwCl [(ra_1, .inr (0, [.ref mr_1, .long (M_1 0)])), (mr_1, .inl (dA 1, 32, .inr (.inl (fun j => M_1 (j + 1))))), (ra_2, .inr (0, [.ref mr_2, .long (M_2 0)])), (mr_2, .inl (dA 1, 32, .inr (.inl (fun j => M_2 (j + 1))))), (ra_3, .inr (0, [.ref mr_3, .long (M_3 0)])), (mr_3, .inl (dA 1, 32, .inr (.inl (fun j => M_3 (j + 1))))), (ra_4, .inr (0, [.ref mr_4, .long (M_4 0)])), (mr_4, .inl (dA 1, 32, .inr (.inl (fun j => M_4 (j + 1)))))] H := hP
  have hD : va_D A [(ra_1, .inr (0, [.ref mr_1, .long (M_1 0)])), (mr_1, .inl (dA 1, 32, .inr (.inl (fun j => M_1 (j + 1))))), (ra_2, .inr (0, [.ref mr_2, .long (M_2 0)])), (mr_2, .inl (dA 1, 32, .inr (.inl (fun j => M_2 (j + 1))))), (ra_3, .inr (0, [.ref mr_3, .long (M_3 0)])), (mr_3, .inl (dA 1, 32, .inr (.inl (fun j => M_3 (j + 1))))), (ra_4, .inr (0, [.ref mr_4, .long (M_4 0)])), (mr_4, .inl (dA 1, 32, .inr (.inl (fun j => M_4 (j + 1)))))] := hD
  subst hQe
  refine vx_ret ?_
  refine W.widen (k := 8) (n := 152) (by first | decide | omega) (by first | decide | omega) ?_
  exact W.aret (v := .ref ra_4) hx hb hr (Or.inl ⟨_, rfl⟩) (Or.inr ⟨_, rfl⟩) (fun tz ht hW => ⟨⟨(mr_4, M_4), ra_4, rfl, (com_s e_1 e_2 e_3 e_4), B1r_at ht (hP.sub [6, 7] rfl) (hD.sub [6, 7] (by decide) rfl) trivial⟩, hS.F ht⟩) hS.2.2 dX31_of_23
set_option maxHeartbeats 4000000 in
theorem xo0 {l : Launch} {dC : Nat → ClassId} {dI : Nat → Nat → Nat} {dA : Nat → ClassId} {s0 : State} {b0 : Addr} (Z : Z0 l dC dI dA s0 b0) (A : Nat → Prop) (sz : Nat) (hA : ∀ q : Nat, sz ≤ q → A q) {σ : Nat → Nat} (Y : SS (dC, dI) dA σ s0) (ao : Nat) (ga sg : Nat) (sr : Nat → Nat) (p0 q0 r0 : Nat) (ma mr : Nat) (M : MV) (sM : MSm M) (pM : MSp (2 ^ (p0 + q0 + r0)) M) : vx_Met l yX32_of (ws_ yX32_of cX32_of 3 (some (.object "BladeAlgebra$Multi"))) ({ frames := 9, cells := 9, slots := 150, locals := 540 } : Room) (gP [.ref ao, .ref ga, .ref ma] s0 A (fun H => H.size = sz ∧ RO A (dC, dI) [(ma, .inr (0, [.ref mr, .long (M 0)])), (mr, .inl (dA 1, 32, .inr (.inl (fun j => M (j + 1)))))] H ∧ AG A (dC, dI) dA ga sg sr p0 q0 r0 H)) (va_Qr (S := Nat × MV) (fun u => oneS 0 p0 q0 r0 M = (nI 0, some u.2)) (B1r (dC, dI) A (fun u q => MA dA q u.1 u.2) (fun _ _ _ => True)) A) (vx_X (S := Unit) (fun _ => True) (fun _ E _ _ => (E = "java/lang/IllegalStateException" ∧ oneS 0 p0 q0 r0 M = (nI 4, none)) ∨ (E = "BladeAlgebra$Unfit" ∧ oneS 0 p0 q0 r0 M = (nI 3, none))) A) 9 150 A := by
  refine vx_ofW (cc := cX32_of) (maxL := 3) (ret := (some (.object "BladeAlgebra$Multi"))) (by decide) rfl ?_
  intro p e s m args below meth c s₁ B hml hnoH hv
  obtain ⟨hav, hG, hsz, hR0, hAG⟩ := hv
  have hx := B.exec
  have hb := B.bytes
  have hr := B.returns
  have hts := atoms_spec (ws := (ws_ yX32_of cX32_of 3 (some (.object "BladeAlgebra$Multi")))) B.pre
  have hts : ∀ w ∈ lw_all, w.before _ s = true := fun w h => hts w (List.mem_cons_of_mem _ h)
  have hown : s.vm.findClass RX32 = some m.cls := findClass_of_methodNamed B.named
  have hlocks := B.notSynchronized
  have hK := hG.K Z
  subst hsz
  have hS : va_S A s.heap s.heap [] := va_S.rf
  have hP : va_P (dC, dI) vwCl [] s.heap := fun k q h => by simp at h
  have hD : va_D A [] := ⟨fun i j p q h => by simp at h, fun k q h => by simp at h⟩
  have hl := lv_entry ([.ref ao, .ref ga, .ref ma]) (n := 3) (Nat.le_of_ble_eq_true rfl)
  rw [show entryFrame m args 3 = entryFrame m ([.ref ao, .ref ga, .ref ma] : List Value).toArray 3 from by rw [hav], lg_entry_eq]
  generalize (lg_sl ([.ref ao, .ref ga, .ref ma]) ++ List.replicate (3 - (lg_sl ([.ref ao, .ref ga, .ref ma])).length) Slot.unset).toArray = ls at hl ⊢
  have hl : lv_has ls 3 [(0, .ref ao), (1, .ref ga), (2, .ref ma)] := hl
  generalize hQe : vx_MQ below _ _ _ s _ _ _ = Q
  change W p l e ({ frames := 9, cells := 9, slots := 150, locals := 540 } : Room) s m args below meth c s.heap [] 0 0 Q (F0 m 0 ls [])
  have hn := hAG.1
  have h5 := pow5 hn
  have hR1 := hAG.2.1
  refine lv_aload_n hx hb dX32_of_0 rfl (lv_at hl 2 rfl) ?_
  have hF9 := va_free (wc := []) hD hS (fun q h => hA q h) [] rfl
  refine c_r (wr := []) (va_runSN (As := [.ref ma]) (rest := []) ⟨hx, hb, hml, hown, hts⟩ (x1_reverse Z (va_A [] s.heap.size) s.heap.size (fun q h => Or.inr h) Y p0 q0 r0 ma mr M hn sM pM) ⟨va_cnB 1 hts (lw_meth q755) rfl rfl rfl (va_Nw.warmM hG.1 (va_Nw.of rfl (Z.2.1 _ q753))) (hts _ q96) (by decide +kernel) ⟨Nat.le_of_ble_eq_true rfl, Nat.le_of_ble_eq_true rfl⟩, hts _ q754, trivial⟩ (gP_S hG hS (fun q _ h => hF9 q h) ⟨rfl, (hR0.to hS (fun q _ h => hF9 q h))⟩) rfl rfl hl.1 rfl (lv_room (Nat.le_of_ble_eq_true rfl)) dX32_of_1 ⟨by first | decide | omega | (show _ ≤ (9 : Nat); omega), by first | decide | omega | (show _ ≤ (150 : Nat); omega)⟩) hP hD hS hA [] [] rfl rfl (by decide) (by decide) (fun u9 ra9 H locs hq hX hz hk hP hD hS => ?_)
  obtain ⟨ra_1, rfl⟩ : ∃ z, z = ra9 := ⟨_, rfl⟩
  obtain ⟨mr_1, rfl⟩ : ∃ z, z = u9 := ⟨_, rfl⟩
  have hP : va_P (dC, dI) vwCl [(ra_1, .inr (0, [.ref mr_1, .long ((trnS 0 p0 q0 r0 M) 0)])), (mr_1, .inl (dA 1, 32, .inr (.inl (fun j => (trnS 0 p0 q0 r0 M) (j + 1)))))] H := hP
  have hD : va_D A [(ra_1, .inr (0, [.ref mr_1, .long ((trnS 0 p0 q0 r0 M) 0)])), (mr_1, .inl (dA 1, 32, .inr (.inl (fun j => (trnS 0 p0 q0 r0 M) (j + 1)))))] := hD
  subst hQe
  refine vx_ret ?_
  refine W.widen (k := 9) (n := 150) (by first | decide | omega) (by first | decide | omega) ?_
  exact W.aret (v := .ref ra_1) hx hb hr (Or.inl ⟨_, rfl⟩) (Or.inr ⟨_, rfl⟩) (fun tz ht hW => ⟨⟨(mr_1, trnS 0 p0 q0 r0 M), ra_1, rfl, rfl, B1r_at ht (hP.sub [0, 1] rfl) (hD.sub [0, 1] (by decide) rfl) trivial⟩, hS.F ht⟩) hS.2.2 dX32_of_4
set_option maxHeartbeats 4000000 in
theorem xo1 {l : Launch} {dC : Nat → ClassId} {dI : Nat → Nat → Nat} {dA : Nat → ClassId} {s0 : State} {b0 : Addr} (Z : Z0 l dC dI dA s0 b0) (A : Nat → Prop) (sz : Nat) (hA : ∀ q : Nat, sz ≤ q → A q) {σ : Nat → Nat} (Y : SS (dC, dI) dA σ s0) (ao : Nat) (ga sg : Nat) (sr : Nat → Nat) (p0 q0 r0 : Nat) (ma mr : Nat) (M : MV) (sM : MSm M) (pM : MSp (2 ^ (p0 + q0 + r0)) M) : vx_Met l yX34_of (ws_ yX34_of cX34_of 3 (some (.object "BladeAlgebra$Multi"))) ({ frames := 9, cells := 9, slots := 150, locals := 540 } : Room) (gP [.ref ao, .ref ga, .ref ma] s0 A (fun H => H.size = sz ∧ RO A (dC, dI) [(ma, .inr (0, [.ref mr, .long (M 0)])), (mr, .inl (dA 1, 32, .inr (.inl (fun j => M (j + 1)))))] H ∧ AG A (dC, dI) dA ga sg sr p0 q0 r0 H)) (va_Qr (S := Nat × MV) (fun u => oneS 1 p0 q0 r0 M = (nI 0, some u.2)) (B1r (dC, dI) A (fun u q => MA dA q u.1 u.2) (fun _ _ _ => True)) A) (vx_X (S := Unit) (fun _ => True) (fun _ E _ _ => (E = "java/lang/IllegalStateException" ∧ oneS 1 p0 q0 r0 M = (nI 4, none)) ∨ (E = "BladeAlgebra$Unfit" ∧ oneS 1 p0 q0 r0 M = (nI 3, none))) A) 9 150 A := by
  refine vx_ofW (cc := cX34_of) (maxL := 3) (ret := (some (.object "BladeAlgebra$Multi"))) (by decide) rfl ?_
  intro p e s m args below meth c s₁ B hml hnoH hv
  obtain ⟨hav, hG, hsz, hR0, hAG⟩ := hv
  have hx := B.exec
  have hb := B.bytes
  have hr := B.returns
  have hts := atoms_spec (ws := (ws_ yX34_of cX34_of 3 (some (.object "BladeAlgebra$Multi")))) B.pre
  have hts : ∀ w ∈ lw_all, w.before _ s = true := fun w h => hts w (List.mem_cons_of_mem _ h)
  have hown : s.vm.findClass RX34 = some m.cls := findClass_of_methodNamed B.named
  have hlocks := B.notSynchronized
  have hK := hG.K Z
  subst hsz
  have hS : va_S A s.heap s.heap [] := va_S.rf
  have hP : va_P (dC, dI) vwCl [] s.heap := fun k q h => by simp at h
  have hD : va_D A [] := ⟨fun i j p q h => by simp at h, fun k q h => by simp at h⟩
  have hl := lv_entry ([.ref ao, .ref ga, .ref ma]) (n := 3) (Nat.le_of_ble_eq_true rfl)
  rw [show entryFrame m args 3 = entryFrame m ([.ref ao, .ref ga, .ref ma] : List Value).toArray 3 from by rw [hav], lg_entry_eq]
  generalize (lg_sl ([.ref ao, .ref ga, .ref ma]) ++ List.replicate (3 - (lg_sl ([.ref ao, .ref ga, .ref ma])).length) Slot.unset).toArray = ls at hl ⊢
  have hl : lv_has ls 3 [(0, .ref ao), (1, .ref ga), (2, .ref ma)] := hl
  generalize hQe : vx_MQ below _ _ _ s _ _ _ = Q
  change W p l e ({ frames := 9, cells := 9, slots := 150, locals := 540 } : Room) s m args below meth c s.heap [] 0 0 Q (F0 m 0 ls [])
  have hn := hAG.1
  have h5 := pow5 hn
  have hR1 := hAG.2.1
  refine lv_aload_n hx hb dX34_of_0 rfl (lv_at hl 2 rfl) ?_
  refine lv_bipush (v := nI 42) hx hb dX34_of_1 (by decide) ?_
  refine lv_bipush (v := nI 63) hx hb dX34_of_3 (by decide) ?_
  obtain ⟨gr, Yg⟩ : ∃ g, SG (dC, dI) dA g s0 := ⟨_, SS.gr Y⟩
  have hF9 := va_free (wc := []) hD hS (fun q h => hA q h) [] rfl
  refine c_r (wr := []) (va_runV (As := [.int (nI 42), .int (nI 63)]) (rest := []) ⟨hx, hb, hml, hown, hts⟩ (x6_signed Z (va_A [] s.heap.size) s.heap.size (fun q h => Or.inr h) gr Yg ma mr M 42 63 sM (by decide) (by decide)) (cwV 2 hts (lw_V q801 q757 q758 q102 q759) rfl rfl rfl (by decide +kernel) ⟨Nat.le_of_ble_eq_true rfl, Nat.le_of_ble_eq_true rfl⟩) (gP_V (va_recv hK (hR0.up hS) (ci := 0) (q0 := 0) rfl rfl) hG hS (fun q _ h => hF9 q h) ⟨rfl, (hR0.to hS (fun q _ h => hF9 q h))⟩) rfl rfl hl.1 rfl (lv_room (Nat.le_of_ble_eq_true rfl)) dX34_of_5 ⟨by first | decide | omega | (show _ ≤ (9 : Nat); omega), by first | decide | omega | (show _ ≤ (150 : Nat); omega)⟩) hP hD hS hA [] [] rfl rfl (by decide) (by decide) (fun u9 ra9 H locs hq hX hz hk hP hD hS => ?_)
  obtain ⟨ra_1, rfl⟩ : ∃ z, z = ra9 := ⟨_, rfl⟩
  obtain ⟨mr_1, rfl⟩ : ∃ z, z = u9 := ⟨_, rfl⟩
  have hP : va_P (dC, dI) vwCl [(ra_1, .inr (0, [.ref mr_1, .long ((redS (M 0) (sgdF 42 63 M)) 0)])), (mr_1, .inl (dA 1, 32, .inr (.inl (fun j => (redS (M 0) (sgdF 42 63 M)) (j + 1)))))] H := hP
  have hD : va_D A [(ra_1, .inr (0, [.ref mr_1, .long ((redS (M 0) (sgdF 42 63 M)) 0)])), (mr_1, .inl (dA 1, 32, .inr (.inl (fun j => (redS (M 0) (sgdF 42 63 M)) (j + 1)))))] := hD
  have hM9 : ∀ i, i < 33 → (redS (M 0) (sgdF 42 63 M)) i = (trnS 1 p0 q0 r0 M) i := sgd_tr (by decide) hn pM
  have e9 : ((redS (M 0) (sgdF 42 63 M)) 0) = ((trnS 1 p0 q0 r0 M) 0) := hM9 0 (by decide)
  rw [e9] at hP hD; clear e9
  have hP := P_L hP 1 (fun j => (trnS 1 p0 q0 r0 M) (j + 1)) rfl (fun j hj => hM9 (j + 1) (by omega))
  have hD := va_D.set (e := .inl (dA 1, 32, .inr (.inl (fun j => (trnS 1 p0 q0 r0 M) (j + 1))))) hD (p := 1) rfl
  have hP : va_P (dC, dI) vwCl [(ra_1, .inr (0, [.ref mr_1, .long ((trnS 1 p0 q0 r0 M) 0)])), (mr_1, .inl (dA 1, 32, .inr (.inl (fun j => (trnS 1 p0 q0 r0 M) (j + 1)))))] H := hP
  have hD : va_D A [(ra_1, .inr (0, [.ref mr_1, .long ((trnS 1 p0 q0 r0 M) 0)])), (mr_1, .inl (dA 1, 32, .inr (.inl (fun j => (trnS 1 p0 q0 r0 M) (j + 1)))))] := hD
  clear hM9
  subst hQe
  refine vx_ret ?_
  refine W.widen (k := 9) (n := 150) (by first | decide | omega) (by first | decide | omega) ?_
  exact W.aret (v := .ref ra_1) hx hb hr (Or.inl ⟨_, rfl⟩) (Or.inr ⟨_, rfl⟩) (fun tz ht hW => ⟨⟨(mr_1, trnS 1 p0 q0 r0 M), ra_1, rfl, rfl, B1r_at ht (hP.sub [0, 1] rfl) (hD.sub [0, 1] (by decide) rfl) trivial⟩, hS.F ht⟩) hS.2.2 dX34_of_8
set_option maxHeartbeats 4000000 in
theorem xo2 {l : Launch} {dC : Nat → ClassId} {dI : Nat → Nat → Nat} {dA : Nat → ClassId} {s0 : State} {b0 : Addr} (Z : Z0 l dC dI dA s0 b0) (A : Nat → Prop) (sz : Nat) (hA : ∀ q : Nat, sz ≤ q → A q) {σ : Nat → Nat} (Y : SS (dC, dI) dA σ s0) (ao : Nat) (ga sg : Nat) (sr : Nat → Nat) (p0 q0 r0 : Nat) (ma mr : Nat) (M : MV) (sM : MSm M) (pM : MSp (2 ^ (p0 + q0 + r0)) M) : vx_Met l yX35_of (ws_ yX35_of cX35_of 3 (some (.object "BladeAlgebra$Multi"))) ({ frames := 9, cells := 9, slots := 150, locals := 540 } : Room) (gP [.ref ao, .ref ga, .ref ma] s0 A (fun H => H.size = sz ∧ RO A (dC, dI) [(ma, .inr (0, [.ref mr, .long (M 0)])), (mr, .inl (dA 1, 32, .inr (.inl (fun j => M (j + 1)))))] H ∧ AG A (dC, dI) dA ga sg sr p0 q0 r0 H)) (va_Qr (S := Nat × MV) (fun u => oneS 2 p0 q0 r0 M = (nI 0, some u.2)) (B1r (dC, dI) A (fun u q => MA dA q u.1 u.2) (fun _ _ _ => True)) A) (vx_X (S := Unit) (fun _ => True) (fun _ E _ _ => (E = "java/lang/IllegalStateException" ∧ oneS 2 p0 q0 r0 M = (nI 4, none)) ∨ (E = "BladeAlgebra$Unfit" ∧ oneS 2 p0 q0 r0 M = (nI 3, none))) A) 9 150 A := by
  refine vx_ofW (cc := cX35_of) (maxL := 3) (ret := (some (.object "BladeAlgebra$Multi"))) (by decide) rfl ?_
  intro p e s m args below meth c s₁ B hml hnoH hv
  obtain ⟨hav, hG, hsz, hR0, hAG⟩ := hv
  have hx := B.exec
  have hb := B.bytes
  have hr := B.returns
  have hts := atoms_spec (ws := (ws_ yX35_of cX35_of 3 (some (.object "BladeAlgebra$Multi")))) B.pre
  have hts : ∀ w ∈ lw_all, w.before _ s = true := fun w h => hts w (List.mem_cons_of_mem _ h)
  have hown : s.vm.findClass RX35 = some m.cls := findClass_of_methodNamed B.named
  have hlocks := B.notSynchronized
  have hK := hG.K Z
  subst hsz
  have hS : va_S A s.heap s.heap [] := va_S.rf
  have hP : va_P (dC, dI) vwCl [] s.heap := fun k q h => by simp at h
  have hD : va_D A [] := ⟨fun i j p q h => by simp at h, fun k q h => by simp at h⟩
  have hl := lv_entry ([.ref ao, .ref ga, .ref ma]) (n := 3) (Nat.le_of_ble_eq_true rfl)
  rw [show entryFrame m args 3 = entryFrame m ([.ref ao, .ref ga, .ref ma] : List Value).toArray 3 from by rw [hav], lg_entry_eq]
  generalize (lg_sl ([.ref ao, .ref ga, .ref ma]) ++ List.replicate (3 - (lg_sl ([.ref ao, .ref ga, .ref ma])).length) Slot.unset).toArray = ls at hl ⊢
  have hl : lv_has ls 3 [(0, .ref ao), (1, .ref ga), (2, .ref ma)] := hl
  generalize hQe : vx_MQ below _ _ _ s _ _ _ = Q
  change W p l e ({ frames := 9, cells := 9, slots := 150, locals := 540 } : Room) s m args below meth c s.heap [] 0 0 Q (F0 m 0 ls [])
  have hn := hAG.1
  have h5 := pow5 hn
  have hR1 := hAG.2.1
  refine lv_aload_n hx hb dX35_of_0 rfl (lv_at hl 2 rfl) ?_
  refine lv_bipush (v := nI 38) hx hb dX35_of_1 (by decide) ?_
  refine lv_bipush (v := nI 63) hx hb dX35_of_3 (by decide) ?_
  obtain ⟨gr, Yg⟩ : ∃ g, SG (dC, dI) dA g s0 := ⟨_, SS.gr Y⟩
  have hF9 := va_free (wc := []) hD hS (fun q h => hA q h) [] rfl
  refine c_r (wr := []) (va_runV (As := [.int (nI 38), .int (nI 63)]) (rest := []) ⟨hx, hb, hml, hown, hts⟩ (x6_signed Z (va_A [] s.heap.size) s.heap.size (fun q h => Or.inr h) gr Yg ma mr M 38 63 sM (by decide) (by decide)) (cwV 2 hts (lw_V q805 q757 q758 q102 q759) rfl rfl rfl (by decide +kernel) ⟨Nat.le_of_ble_eq_true rfl, Nat.le_of_ble_eq_true rfl⟩) (gP_V (va_recv hK (hR0.up hS) (ci := 0) (q0 := 0) rfl rfl) hG hS (fun q _ h => hF9 q h) ⟨rfl, (hR0.to hS (fun q _ h => hF9 q h))⟩) rfl rfl hl.1 rfl (lv_room (Nat.le_of_ble_eq_true rfl)) dX35_of_5 ⟨by first | decide | omega | (show _ ≤ (9 : Nat); omega), by first | decide | omega | (show _ ≤ (150 : Nat); omega)⟩) hP hD hS hA [] [] rfl rfl (by decide) (by decide) (fun u9 ra9 H locs hq hX hz hk hP hD hS => ?_)
  obtain ⟨ra_1, rfl⟩ : ∃ z, z = ra9 := ⟨_, rfl⟩
  obtain ⟨mr_1, rfl⟩ : ∃ z, z = u9 := ⟨_, rfl⟩
  have hP : va_P (dC, dI) vwCl [(ra_1, .inr (0, [.ref mr_1, .long ((redS (M 0) (sgdF 38 63 M)) 0)])), (mr_1, .inl (dA 1, 32, .inr (.inl (fun j => (redS (M 0) (sgdF 38 63 M)) (j + 1)))))] H := hP
  have hD : va_D A [(ra_1, .inr (0, [.ref mr_1, .long ((redS (M 0) (sgdF 38 63 M)) 0)])), (mr_1, .inl (dA 1, 32, .inr (.inl (fun j => (redS (M 0) (sgdF 38 63 M)) (j + 1)))))] := hD
  have hM9 : ∀ i, i < 33 → (redS (M 0) (sgdF 38 63 M)) i = (trnS 2 p0 q0 r0 M) i := sgd_tr (by decide) hn pM
  have e9 : ((redS (M 0) (sgdF 38 63 M)) 0) = ((trnS 2 p0 q0 r0 M) 0) := hM9 0 (by decide)
  rw [e9] at hP hD; clear e9
  have hP := P_L hP 1 (fun j => (trnS 2 p0 q0 r0 M) (j + 1)) rfl (fun j hj => hM9 (j + 1) (by omega))
  have hD := va_D.set (e := .inl (dA 1, 32, .inr (.inl (fun j => (trnS 2 p0 q0 r0 M) (j + 1))))) hD (p := 1) rfl
  have hP : va_P (dC, dI) vwCl [(ra_1, .inr (0, [.ref mr_1, .long ((trnS 2 p0 q0 r0 M) 0)])), (mr_1, .inl (dA 1, 32, .inr (.inl (fun j => (trnS 2 p0 q0 r0 M) (j + 1)))))] H := hP
  have hD : va_D A [(ra_1, .inr (0, [.ref mr_1, .long ((trnS 2 p0 q0 r0 M) 0)])), (mr_1, .inl (dA 1, 32, .inr (.inl (fun j => (trnS 2 p0 q0 r0 M) (j + 1)))))] := hD
  clear hM9
  subst hQe
  refine vx_ret ?_
  refine W.widen (k := 9) (n := 150) (by first | decide | omega) (by first | decide | omega) ?_
  exact W.aret (v := .ref ra_1) hx hb hr (Or.inl ⟨_, rfl⟩) (Or.inr ⟨_, rfl⟩) (fun tz ht hW => ⟨⟨(mr_1, trnS 2 p0 q0 r0 M), ra_1, rfl, rfl, B1r_at ht (hP.sub [0, 1] rfl) (hD.sub [0, 1] (by decide) rfl) trivial⟩, hS.F ht⟩) hS.2.2 dX35_of_8
set_option maxHeartbeats 4000000 in
theorem xo3 {l : Launch} {dC : Nat → ClassId} {dI : Nat → Nat → Nat} {dA : Nat → ClassId} {s0 : State} {b0 : Addr} (Z : Z0 l dC dI dA s0 b0) (A : Nat → Prop) (sz : Nat) (hA : ∀ q : Nat, sz ≤ q → A q) {σ : Nat → Nat} (Y : SS (dC, dI) dA σ s0) (ao : Nat) (ga sg : Nat) (sr : Nat → Nat) (p0 q0 r0 : Nat) (ma mr : Nat) (M : MV) (sM : MSm M) (pM : MSp (2 ^ (p0 + q0 + r0)) M) : vx_Met l yX36_of (ws_ yX36_of cX36_of 3 (some (.object "BladeAlgebra$Multi"))) ({ frames := 9, cells := 9, slots := 150, locals := 540 } : Room) (gP [.ref ao, .ref ga, .ref ma] s0 A (fun H => H.size = sz ∧ RO A (dC, dI) [(ma, .inr (0, [.ref mr, .long (M 0)])), (mr, .inl (dA 1, 32, .inr (.inl (fun j => M (j + 1)))))] H ∧ AG A (dC, dI) dA ga sg sr p0 q0 r0 H)) (va_Qr (S := Nat × MV) (fun u => oneS 3 p0 q0 r0 M = (nI 0, some u.2)) (B1r (dC, dI) A (fun u q => MA dA q u.1 u.2) (fun _ _ _ => True)) A) (vx_X (S := Unit) (fun _ => True) (fun _ E _ _ => (E = "java/lang/IllegalStateException" ∧ oneS 3 p0 q0 r0 M = (nI 4, none)) ∨ (E = "BladeAlgebra$Unfit" ∧ oneS 3 p0 q0 r0 M = (nI 3, none))) A) 9 150 A := by
  refine vx_ofW (cc := cX36_of) (maxL := 3) (ret := (some (.object "BladeAlgebra$Multi"))) (by decide) rfl ?_
  intro p e s m args below meth c s₁ B hml hnoH hv
  obtain ⟨hav, hG, hsz, hR0, hAG⟩ := hv
  have hx := B.exec
  have hb := B.bytes
  have hr := B.returns
  have hts := atoms_spec (ws := (ws_ yX36_of cX36_of 3 (some (.object "BladeAlgebra$Multi")))) B.pre
  have hts : ∀ w ∈ lw_all, w.before _ s = true := fun w h => hts w (List.mem_cons_of_mem _ h)
  have hown : s.vm.findClass RX36 = some m.cls := findClass_of_methodNamed B.named
  have hlocks := B.notSynchronized
  have hK := hG.K Z
  subst hsz
  have hS : va_S A s.heap s.heap [] := va_S.rf
  have hP : va_P (dC, dI) vwCl [] s.heap := fun k q h => by simp at h
  have hD : va_D A [] := ⟨fun i j p q h => by simp at h, fun k q h => by simp at h⟩
  have hl := lv_entry ([.ref ao, .ref ga, .ref ma]) (n := 3) (Nat.le_of_ble_eq_true rfl)
  rw [show entryFrame m args 3 = entryFrame m ([.ref ao, .ref ga, .ref ma] : List Value).toArray 3 from by rw [hav], lg_entry_eq]
  generalize (lg_sl ([.ref ao, .ref ga, .ref ma]) ++ List.replicate (3 - (lg_sl ([.ref ao, .ref ga, .ref ma])).length) Slot.unset).toArray = ls at hl ⊢
  have hl : lv_has ls 3 [(0, .ref ao), (1, .ref ga), (2, .ref ma)] := hl
  generalize hQe : vx_MQ below _ _ _ s _ _ _ = Q
  change W p l e ({ frames := 9, cells := 9, slots := 150, locals := 540 } : Room) s m args below meth c s.heap [] 0 0 Q (F0 m 0 ls [])
  have hn := hAG.1
  have h5 := pow5 hn
  have hR1 := hAG.2.1
  refine lv_aload_n hx hb dX36_of_0 rfl (lv_at hl 1 rfl) ?_
  refine lv_aload_n hx hb dX36_of_1 rfl (lv_at hl 2 rfl) ?_
  refine lv_iconst (v := nI 0) hx hb dX36_of_2 (by decide) ?_
  have hF9 := va_free (wc := []) hD hS (fun q h => hA q h) [] rfl
  refine c_r (wr := []) (va_runV (As := [.ref ma, .int (nI 0)]) (rest := []) ⟨hx, hb, hml, hown, hts⟩ (x5_complement Z (va_A [] s.heap.size) s.heap.size (fun q h => Or.inr h) Y ga sg sr p0 q0 r0 ma mr M false hn sM) (cwV 2 hts (lw_V q809 q708 q709 q101 q710) rfl rfl rfl (by decide +kernel) ⟨Nat.le_of_ble_eq_true rfl, Nat.le_of_ble_eq_true rfl⟩) (gP_V (va_recv hK (hR1.up hS) (ci := 1) (q0 := 0) rfl rfl) hG hS (fun q _ h => hF9 q h) ⟨rfl, ((hR1.to hS (fun q _ h => hF9 q h)).sub [0] rfl), (hR0.to hS (fun q _ h => hF9 q h))⟩) rfl rfl hl.1 rfl (lv_room (Nat.le_of_ble_eq_true rfl)) dX36_of_3 ⟨by first | decide | omega | (show _ ≤ (9 : Nat); omega), by first | decide | omega | (show _ ≤ (150 : Nat); omega)⟩) hP hD hS hA [] [] rfl rfl (by decide) (by decide) (fun u9 ra9 H locs hq hX hz hk hP hD hS => ?_)
  obtain ⟨ra_1, rfl⟩ : ∃ z, z = ra9 := ⟨_, rfl⟩
  obtain ⟨mr_1, rfl⟩ : ∃ z, z = u9 := ⟨_, rfl⟩
  have hP : va_P (dC, dI) vwCl [(ra_1, .inr (0, [.ref mr_1, .long ((trnS (if false = true then 4 else 3) p0 q0 r0 M) 0)])), (mr_1, .inl (dA 1, 32, .inr (.inl (fun j => (trnS (if false = true then 4 else 3) p0 q0 r0 M) (j + 1)))))] H := hP
  have hD : va_D A [(ra_1, .inr (0, [.ref mr_1, .long ((trnS (if false = true then 4 else 3) p0 q0 r0 M) 0)])), (mr_1, .inl (dA 1, 32, .inr (.inl (fun j => (trnS (if false = true then 4 else 3) p0 q0 r0 M) (j + 1)))))] := hD
  have hP : va_P (dC, dI) vwCl [(ra_1, .inr (0, [.ref mr_1, .long ((trnS 3 p0 q0 r0 M) 0)])), (mr_1, .inl (dA 1, 32, .inr (.inl (fun j => (trnS 3 p0 q0 r0 M) (j + 1)))))] H := hP
  have hD : va_D A [(ra_1, .inr (0, [.ref mr_1, .long ((trnS 3 p0 q0 r0 M) 0)])), (mr_1, .inl (dA 1, 32, .inr (.inl (fun j => (trnS 3 p0 q0 r0 M) (j + 1)))))] := hD
  subst hQe
  refine vx_ret ?_
  refine W.widen (k := 9) (n := 150) (by first | decide | omega) (by first | decide | omega) ?_
  exact W.aret (v := .ref ra_1) hx hb hr (Or.inl ⟨_, rfl⟩) (Or.inr ⟨_, rfl⟩) (fun tz ht hW => ⟨⟨(mr_1, trnS 3 p0 q0 r0 M), ra_1, rfl, rfl, B1r_at ht (hP.sub [0, 1] rfl) (hD.sub [0, 1] (by decide) rfl) trivial⟩, hS.F ht⟩) hS.2.2 dX36_of_6
set_option maxHeartbeats 4000000 in
theorem xo4 {l : Launch} {dC : Nat → ClassId} {dI : Nat → Nat → Nat} {dA : Nat → ClassId} {s0 : State} {b0 : Addr} (Z : Z0 l dC dI dA s0 b0) (A : Nat → Prop) (sz : Nat) (hA : ∀ q : Nat, sz ≤ q → A q) {σ : Nat → Nat} (Y : SS (dC, dI) dA σ s0) (ao : Nat) (ga sg : Nat) (sr : Nat → Nat) (p0 q0 r0 : Nat) (ma mr : Nat) (M : MV) (sM : MSm M) (pM : MSp (2 ^ (p0 + q0 + r0)) M) : vx_Met l yX37_of (ws_ yX37_of cX37_of 3 (some (.object "BladeAlgebra$Multi"))) ({ frames := 9, cells := 9, slots := 150, locals := 540 } : Room) (gP [.ref ao, .ref ga, .ref ma] s0 A (fun H => H.size = sz ∧ RO A (dC, dI) [(ma, .inr (0, [.ref mr, .long (M 0)])), (mr, .inl (dA 1, 32, .inr (.inl (fun j => M (j + 1)))))] H ∧ AG A (dC, dI) dA ga sg sr p0 q0 r0 H)) (va_Qr (S := Nat × MV) (fun u => oneS 4 p0 q0 r0 M = (nI 0, some u.2)) (B1r (dC, dI) A (fun u q => MA dA q u.1 u.2) (fun _ _ _ => True)) A) (vx_X (S := Unit) (fun _ => True) (fun _ E _ _ => (E = "java/lang/IllegalStateException" ∧ oneS 4 p0 q0 r0 M = (nI 4, none)) ∨ (E = "BladeAlgebra$Unfit" ∧ oneS 4 p0 q0 r0 M = (nI 3, none))) A) 9 150 A := by
  refine vx_ofW (cc := cX37_of) (maxL := 3) (ret := (some (.object "BladeAlgebra$Multi"))) (by decide) rfl ?_
  intro p e s m args below meth c s₁ B hml hnoH hv
  obtain ⟨hav, hG, hsz, hR0, hAG⟩ := hv
  have hx := B.exec
  have hb := B.bytes
  have hr := B.returns
  have hts := atoms_spec (ws := (ws_ yX37_of cX37_of 3 (some (.object "BladeAlgebra$Multi")))) B.pre
  have hts : ∀ w ∈ lw_all, w.before _ s = true := fun w h => hts w (List.mem_cons_of_mem _ h)
  have hown : s.vm.findClass RX37 = some m.cls := findClass_of_methodNamed B.named
  have hlocks := B.notSynchronized
  have hK := hG.K Z
  subst hsz
  have hS : va_S A s.heap s.heap [] := va_S.rf
  have hP : va_P (dC, dI) vwCl [] s.heap := fun k q h => by simp at h
  have hD : va_D A [] := ⟨fun i j p q h => by simp at h, fun k q h => by simp at h⟩
  have hl := lv_entry ([.ref ao, .ref ga, .ref ma]) (n := 3) (Nat.le_of_ble_eq_true rfl)
  rw [show entryFrame m args 3 = entryFrame m ([.ref ao, .ref ga, .ref ma] : List Value).toArray 3 from by rw [hav], lg_entry_eq]
  generalize (lg_sl ([.ref ao, .ref ga, .ref ma]) ++ List.replicate (3 - (lg_sl ([.ref ao, .ref ga, .ref ma])).length) Slot.unset).toArray = ls at hl ⊢
  have hl : lv_has ls 3 [(0, .ref ao), (1, .ref ga), (2, .ref ma)] := hl
  generalize hQe : vx_MQ below _ _ _ s _ _ _ = Q
  change W p l e ({ frames := 9, cells := 9, slots := 150, locals := 540 } : Room) s m args below meth c s.heap [] 0 0 Q (F0 m 0 ls [])
  have hn := hAG.1
  have h5 := pow5 hn
  have hR1 := hAG.2.1
  refine lv_aload_n hx hb dX37_of_0 rfl (lv_at hl 1 rfl) ?_
  refine lv_aload_n hx hb dX37_of_1 rfl (lv_at hl 2 rfl) ?_
  refine lv_iconst (v := nI 1) hx hb dX37_of_2 (by decide) ?_
  have hF9 := va_free (wc := []) hD hS (fun q h => hA q h) [] rfl
  refine c_r (wr := []) (va_runV (As := [.ref ma, .int (nI 1)]) (rest := []) ⟨hx, hb, hml, hown, hts⟩ (x5_complement Z (va_A [] s.heap.size) s.heap.size (fun q h => Or.inr h) Y ga sg sr p0 q0 r0 ma mr M true hn sM) (cwV 2 hts (lw_V q813 q708 q709 q101 q710) rfl rfl rfl (by decide +kernel) ⟨Nat.le_of_ble_eq_true rfl, Nat.le_of_ble_eq_true rfl⟩) (gP_V (va_recv hK (hR1.up hS) (ci := 1) (q0 := 0) rfl rfl) hG hS (fun q _ h => hF9 q h) ⟨rfl, ((hR1.to hS (fun q _ h => hF9 q h)).sub [0] rfl), (hR0.to hS (fun q _ h => hF9 q h))⟩) rfl rfl hl.1 rfl (lv_room (Nat.le_of_ble_eq_true rfl)) dX37_of_3 ⟨by first | decide | omega | (show _ ≤ (9 : Nat); omega), by first | decide | omega | (show _ ≤ (150 : Nat); omega)⟩) hP hD hS hA [] [] rfl rfl (by decide) (by decide) (fun u9 ra9 H locs hq hX hz hk hP hD hS => ?_)
  obtain ⟨ra_1, rfl⟩ : ∃ z, z = ra9 := ⟨_, rfl⟩
  obtain ⟨mr_1, rfl⟩ : ∃ z, z = u9 := ⟨_, rfl⟩
  have hP : va_P (dC, dI) vwCl [(ra_1, .inr (0, [.ref mr_1, .long ((trnS (if true = true then 4 else 3) p0 q0 r0 M) 0)])), (mr_1, .inl (dA 1, 32, .inr (.inl (fun j => (trnS (if true = true then 4 else 3) p0 q0 r0 M) (j + 1)))))] H := hP
  have hD : va_D A [(ra_1, .inr (0, [.ref mr_1, .long ((trnS (if true = true then 4 else 3) p0 q0 r0 M) 0)])), (mr_1, .inl (dA 1, 32, .inr (.inl (fun j => (trnS (if true = true then 4 else 3) p0 q0 r0 M) (j + 1)))))] := hD
  have hP : va_P (dC, dI) vwCl [(ra_1, .inr (0, [.ref mr_1, .long ((trnS 4 p0 q0 r0 M) 0)])), (mr_1, .inl (dA 1, 32, .inr (.inl (fun j => (trnS 4 p0 q0 r0 M) (j + 1)))))] H := hP
  have hD : va_D A [(ra_1, .inr (0, [.ref mr_1, .long ((trnS 4 p0 q0 r0 M) 0)])), (mr_1, .inl (dA 1, 32, .inr (.inl (fun j => (trnS 4 p0 q0 r0 M) (j + 1)))))] := hD
  subst hQe
  refine vx_ret ?_
  refine W.widen (k := 9) (n := 150) (by first | decide | omega) (by first | decide | omega) ?_
  exact W.aret (v := .ref ra_1) hx hb hr (Or.inl ⟨_, rfl⟩) (Or.inr ⟨_, rfl⟩) (fun tz ht hW => ⟨⟨(mr_1, trnS 4 p0 q0 r0 M), ra_1, rfl, rfl, B1r_at ht (hP.sub [0, 1] rfl) (hD.sub [0, 1] (by decide) rfl) trivial⟩, hS.F ht⟩) hS.2.2 dX37_of_6
set_option maxHeartbeats 4000000 in
theorem xo5 {l : Launch} {dC : Nat → ClassId} {dI : Nat → Nat → Nat} {dA : Nat → ClassId} {s0 : State} {b0 : Addr} (Z : Z0 l dC dI dA s0 b0) (A : Nat → Prop) (sz : Nat) (hA : ∀ q : Nat, sz ≤ q → A q) {σ : Nat → Nat} (Y : SS (dC, dI) dA σ s0) (ao : Nat) (ga sg : Nat) (sr : Nat → Nat) (p0 q0 r0 : Nat) (ma mr : Nat) (M : MV) (sM : MSm M) (pM : MSp (2 ^ (p0 + q0 + r0)) M) : vx_Met l yX17_of (ws_ yX17_of cX17_of 4 (some (.object "BladeAlgebra$Multi"))) ({ frames := 9, cells := 9, slots := 150, locals := 540 } : Room) (gP [.ref ao, .ref ga, .ref ma] s0 A (fun H => H.size = sz ∧ RO A (dC, dI) [(ma, .inr (0, [.ref mr, .long (M 0)])), (mr, .inl (dA 1, 32, .inr (.inl (fun j => M (j + 1)))))] H ∧ AG A (dC, dI) dA ga sg sr p0 q0 r0 H)) (va_Qr (S := Nat × MV) (fun u => oneS 5 p0 q0 r0 M = (nI 0, some u.2)) (B1r (dC, dI) A (fun u q => MA dA q u.1 u.2) (fun _ _ _ => True)) A) (vx_X (S := Unit) (fun _ => True) (fun _ E _ _ => (E = "java/lang/IllegalStateException" ∧ oneS 5 p0 q0 r0 M = (nI 4, none)) ∨ (E = "BladeAlgebra$Unfit" ∧ oneS 5 p0 q0 r0 M = (nI 3, none))) A) 9 150 A := by
  refine vx_ofW (cc := cX17_of) (maxL := 4) (ret := (some (.object "BladeAlgebra$Multi"))) (by decide) rfl ?_
  intro p e s m args below meth c s₁ B hml hnoH hv
  obtain ⟨hav, hG, hsz, hR0, hAG⟩ := hv
  have hx := B.exec
  have hb := B.bytes
  have hr := B.returns
  have hts := atoms_spec (ws := (ws_ yX17_of cX17_of 4 (some (.object "BladeAlgebra$Multi")))) B.pre
  have hts : ∀ w ∈ lw_all, w.before _ s = true := fun w h => hts w (List.mem_cons_of_mem _ h)
  have hown : s.vm.findClass RX17 = some m.cls := findClass_of_methodNamed B.named
  have hlocks := B.notSynchronized
  have hK := hG.K Z
  subst hsz
  have hS : va_S A s.heap s.heap [] := va_S.rf
  have hP : va_P (dC, dI) vwCl [] s.heap := fun k q h => by simp at h
  have hD : va_D A [] := ⟨fun i j p q h => by simp at h, fun k q h => by simp at h⟩
  have hl := lv_entry ([.ref ao, .ref ga, .ref ma]) (n := 4) (Nat.le_of_ble_eq_true rfl)
  rw [show entryFrame m args 4 = entryFrame m ([.ref ao, .ref ga, .ref ma] : List Value).toArray 4 from by rw [hav], lg_entry_eq]
  generalize (lg_sl ([.ref ao, .ref ga, .ref ma]) ++ List.replicate (4 - (lg_sl ([.ref ao, .ref ga, .ref ma])).length) Slot.unset).toArray = ls at hl ⊢
  have hl : lv_has ls 4 [(0, .ref ao), (1, .ref ga), (2, .ref ma)] := hl
  generalize hQe : vx_MQ below _ _ _ s _ _ _ = Q
  change W p l e ({ frames := 9, cells := 9, slots := 150, locals := 540 } : Room) s m args below meth c s.heap [] 0 0 Q (F0 m 0 ls [])
  have hn := hAG.1
  have h5 := pow5 hn
  have hR1 := hAG.2.1
  have hz1 : ofS (2 ^ (p0 + q0 + r0) - 1) 1 1 = some (basF (2 ^ (p0 + q0 + r0) - 1) 1) := of_bas (by omega)
  refine lv_aload_n hx hb dX17_of_0 rfl (lv_at hl 1 rfl) ?_
  refine va_getN (D := (dC, dI)) (ci := 1) (v := .int (nI r0)) (C := RX5) (T := TX5) (N := 6) hx hb hts in_X5 hown hK (hR1.up hS) 0 rfl rfl 2 (by decide) (((va_Nw.warmF hG.1 (va_Nw.of rfl (Z.2.1 _ q204)))).use rfl) (fun _ h9 => h9) rfl dX17_of_1 ?_
  refine lv_if_ne (tgt := 11) hx hb dX17_of_4 (by decide) (fun c_4 => ?_) (fun c_4 => ?_)
  · have c_4 : ¬ r0 = 0 := fun h => c_4 ((nI_eq (a := r0) (b := 0) (by omega) (by omega)).mpr h)
    have hr0 : ¬ r0 = 0 := c_4
    refine lv_iconst (v := nI 0) hx hb dX17_of_11 (by decide) ?_
    have hF9 := va_free (wc := []) hD hS (fun q h => hA q h) [] rfl
    refine x_v (wc := []) (wr := []) (vx_runSN (As := [.int (nI 0)]) (rest := []) ⟨hx, hb, hml, hown, hts⟩ (x1_possible Z (va_A [] s.heap.size) s.heap.size (fun q h => Or.inr h) (SS.st Y) (σ 52) (SS.st2 Y) false) ⟨va_cnB 1 hts (lw_meth q777) rfl rfl rfl (va_Nw.warmM hG.1 (va_Nw.of rfl (Z.2.1 _ q817))) (hts _ q96) (by decide +kernel) ⟨Nat.le_of_ble_eq_true rfl, Nat.le_of_ble_eq_true rfl⟩, hts _ q776, trivial⟩ (gP_S hG hS (fun q _ h => hF9 q h) rfl) rfl rfl hl.1 rfl (lv_room (Nat.le_of_ble_eq_true rfl)) dX17_of_12 ⟨by first | decide | omega | (show _ ≤ (9 : Nat); omega), by first | decide | omega | (show _ ≤ (150 : Nat); omega)⟩) hP hD hS hA [] [] rfl rfl (by decide) (by decide) (fun E ce q9 u9 t9 H locs ht9 hp9 hb9 hz hP hS h1 h2 h3 => ?_) (fun u9 H locs hq hX hz hk hP hD hS => ?_)
    · have hD := hD.sub (ws' := []) [] (by decide) rfl
      have hP : va_P (dC, dI) vwCl [] H := hP
      have hD : va_D A [] := hD
      subst hb9
      subst hQe
      exact vx_out (fun x h => (hnoH x h).elim) hlocks h1 h2 h3 (fun t10 e10 _ => ⟨(), trivial, Or.inl ⟨rfl, one_5x hr0⟩, hS.F e10⟩) hS.2.2 (by first | decide | omega) (by first | decide | omega)
    exact absurd hq (by decide)
  · have c_4 : r0 = 0 := (nI_eq (a := r0) (b := 0) (by omega) (by omega)).mp c_4
    have hr0 : r0 = 0 := c_4
    refine lv_iconst (v := nI 1) hx hb dX17_of_7 (by decide) ?_
    refine lv_goto (tgt := 12) hx hb dX17_of_8 (by decide) ?_
    have hF9 := va_free (wc := []) hD hS (fun q h => hA q h) [] rfl
    refine x_v (wc := []) (wr := []) (vx_runSN (As := [.int (nI 1)]) (rest := []) ⟨hx, hb, hml, hown, hts⟩ (x1_possible Z (va_A [] s.heap.size) s.heap.size (fun q h => Or.inr h) (SS.st Y) (σ 52) (SS.st2 Y) true) ⟨va_cnB 1 hts (lw_meth q777) rfl rfl rfl (va_Nw.warmM hG.1 (va_Nw.of rfl (Z.2.1 _ q817))) (hts _ q96) (by decide +kernel) ⟨Nat.le_of_ble_eq_true rfl, Nat.le_of_ble_eq_true rfl⟩, hts _ q776, trivial⟩ (gP_S hG hS (fun q _ h => hF9 q h) rfl) rfl rfl hl.1 rfl (lv_room (Nat.le_of_ble_eq_true rfl)) dX17_of_12 ⟨by first | decide | omega | (show _ ≤ (9 : Nat); omega), by first | decide | omega | (show _ ≤ (150 : Nat); omega)⟩) hP hD hS hA [] [] rfl rfl (by decide) (by decide) (fun E ce q9 u9 t9 H locs ht9 hp9 hb9 hz hP hS h1 h2 h3 => ?_) (fun u9 H locs hq hX hz hk hP hD hS => ?_)
    · have hD := hD.sub (ws' := []) [] (by decide) rfl
      have hP : va_P (dC, dI) vwCl [] H := hP
      have hD : va_D A [] := hD
      exact absurd hp9 (by decide)
    have hg12 : true = true := hq
    clear hq
    have hP : va_P (dC, dI) vwCl [] H := hP
    have hD : va_D A [] := hD
    refine lv_aload_n hx hb dX17_of_15 rfl (lv_at hl 1 rfl) ?_
    refine va_getN (D := (dC, dI)) (ci := 1) (v := .int (nI (2 ^ (p0 + q0 + r0) - 1))) (C := RX5) (T := TX5) (N := 6) hx hb hts in_X5 hown hK (hR1.up hS) 0 rfl rfl 4 (by decide) (((va_Nw.warmF hG.1 (va_Nw.of rfl (Z.2.1 _ q210)))).use rfl) (fun _ h9 => h9) rfl dX17_of_16 ?_
    refine lv_lconst (v := 1) hx hb dX17_of_19 rfl ?_
    refine lv_lconst (v := 1) hx hb dX17_of_20 rfl ?_
    have hF9 := va_free (wc := []) hD hS (fun q h => hA q h) [] rfl
    refine x_r (wc := []) (wr := []) (vx_runS (As := [.int (nI (2 ^ (p0 + q0 + r0) - 1)), .long 1, .long 1]) (rest := []) ⟨hx, hb, hml, hown, hts⟩ (x6_of Z (va_A [] H.size) H.size (fun q h => Or.inr h) Y (2 ^ (p0 + q0 + r0) - 1) 1 1 (by omega) (by decide) (by decide) (by decide)) (va_cwS 3 hts (lw_S q818 q819 q102 q820) rfl rfl rfl (by decide +kernel) ⟨Nat.le_of_ble_eq_true rfl, Nat.le_of_ble_eq_true rfl⟩) (gP_S hG hS (fun q _ h => hF9 q h) rfl) rfl rfl hl.1 rfl (lv_room (Nat.le_of_ble_eq_true rfl)) dX17_of_21 ⟨by first | decide | omega | (show _ ≤ (9 : Nat); omega), by first | decide | omega | (show _ ≤ (150 : Nat); omega)⟩) hP hD hS hA [] [] rfl rfl (by decide) (by decide) (fun E ce q9 u9 t9 H locs ht9 hp9 hb9 hz hP hS h1 h2 h3 => ?_) (fun u9 ra9 H locs hq hX hz hk hP hD hS => ?_)
    · have hD := hD.sub (ws' := []) [] (by decide) rfl
      have hP : va_P (dC, dI) vwCl [] H := hP
      have hD : va_D A [] := hD
      subst hb9
      subst hQe
      exact vx_out (fun x h => (hnoH x h).elim) hlocks h1 h2 h3 (fun t10 e10 _ => ⟨(), trivial, (show False from by rw [hz1] at hp9; cases hp9).elim, hS.F e10⟩) hS.2.2 (by first | decide | omega) (by first | decide | omega)
    obtain ⟨ra_1, rfl⟩ : ∃ z, z = ra9 := ⟨_, rfl⟩
    obtain ⟨mr_1, M_1⟩ := u9
    have e_1 := hq
    have sm_1 : MSm M_1 := fitG_sm (by decide) (by decide) e_1
    clear hq
    have hP : va_P (dC, dI) vwCl [(ra_1, .inr (0, [.ref mr_1, .long (M_1 0)])), (mr_1, .inl (dA 1, 32, .inr (.inl (fun j => M_1 (j + 1)))))] H := hP
    have hD : va_D A [(ra_1, .inr (0, [.ref mr_1, .long (M_1 0)])), (mr_1, .inl (dA 1, 32, .inr (.inl (fun j => M_1 (j + 1)))))] := hD
    refine lv_astore_n (lv' := [(3, .ref ra_1), (0, .ref ao), (1, .ref ga), (2, .ref ma)]) hx hb dX17_of_24 rfl hl (by decide) rfl (fun ls hl => ?_)
    refine lv_aload_n hx hb dX17_of_25 rfl (lv_at hl 2 rfl) ?_
    refine lv_aload_n hx hb dX17_of_26 rfl (lv_at hl 3 rfl) ?_
    refine lv_aload_n hx hb dX17_of_27 rfl (lv_at hl 0 rfl) ?_
    refine lv_aload_n hx hb dX17_of_28 rfl (lv_at hl 2 rfl) ?_
    refine va_getN (D := (dC, dI)) (ci := 1) (v := .ref sg) (C := RX5) (T := TX5) (N := 6) hx hb hts in_X5 hown hK (hR1.up hS) 0 rfl rfl 5 (by decide) (((va_Nw.warmF hG.1 (va_Nw.of rfl (Z.2.1 _ q214)))).use rfl) (fun _ h9 => h9) rfl dX17_of_29 ?_
    refine lv_aload_n hx hb dX17_of_32 rfl (lv_at hl 2 rfl) ?_
    refine va_getN (D := (dC, dI)) (ci := 1) (v := .int (nI (2 ^ (p0 + q0 + r0) - 1))) (C := RX5) (T := TX5) (N := 6) hx hb hts in_X5 hown hK (hR1.up hS) 0 rfl rfl 4 (by decide) (((va_Nw.warmF hG.1 (va_Nw.of rfl (Z.2.1 _ q210)))).use rfl) (fun _ h9 => h9) rfl dX17_of_33 ?_
    refine a_aldr hx hb hK (hR1.up hS) 1 9 rfl rfl (by omega) (by decide) dX17_of_36 ?_
    refine e_v (y := .ref (sr (2 ^ (p0 + q0 + r0) - 1))) (rfl) ?_
    have hR2 := hAG.2.2 (2 ^ (p0 + q0 + r0) - 1) (by omega)
    refine lv_aload_n hx hb dX17_of_37 rfl (lv_at hl 2 rfl) ?_
    refine va_getN (D := (dC, dI)) (ci := 1) (v := .int (nI (2 ^ (p0 + q0 + r0) - 1))) (C := RX5) (T := TX5) (N := 6) hx hb hts in_X5 hown hK (hR1.up hS) 0 rfl rfl 4 (by decide) (((va_Nw.warmF hG.1 (va_Nw.of rfl (Z.2.1 _ q210)))).use rfl) (fun _ h9 => h9) rfl dX17_of_38 ?_
    refine a_iald hx hb hK (hR2.up hS) 0 0 rfl rfl (by omega) (by omega) dX17_of_41 ?_
    refine e_i (y := sgS p0 q0 r0 (2 ^ (p0 + q0 + r0) - 1) (2 ^ (p0 + q0 + r0) - 1)) (if_pos ⟨by omega, by omega⟩) ?_
    refine lv_i2l (v := (sgS p0 q0 r0 (2 ^ (p0 + q0 + r0) - 1) (2 ^ (p0 + q0 + r0) - 1)).toInt64) hx hb dX17_of_42 rfl ?_
    refine lv_lconst (v := 1) hx hb dX17_of_43 rfl ?_
    have hF9 := va_free (wc := []) hD hS (fun q h => hA q h) [] rfl
    refine x_r (wc := []) (wr := [(ra_1, .inr (0, [.ref mr_1, .long (M_1 0)])), (mr_1, .inl (dA 1, 32, .inr (.inl (fun j => M_1 (j + 1)))))]) (vx_runV (As := [.long ((sgS p0 q0 r0 (2 ^ (p0 + q0 + r0) - 1) (2 ^ (p0 + q0 + r0) - 1)).toInt64), .long 1]) (rest := [.ref ma, .ref ga]) ⟨hx, hb, hml, hown, hts⟩ (x6_times Z (va_A [] H.size) H.size (fun q h => Or.inr h) Y ra_1 mr_1 M_1 ((sgS p0 q0 r0 (2 ^ (p0 + q0 + r0) - 1) (2 ^ (p0 + q0 + r0) - 1)).toInt64) 1 (sg_sm8 (sgS_sg _ _ _ _ _)) ⟨by decide, by decide⟩ (by decide) sm_1) (cwV 2 hts (lw_V q821 q728 q729 q102 q730) rfl rfl rfl (by decide +kernel) ⟨Nat.le_of_ble_eq_true rfl, Nat.le_of_ble_eq_true rfl⟩) (gP_V (va_recv hK hP (ci := 0) (q0 := 0) rfl rfl) hG hS (fun q _ h => hF9 q h) ⟨rfl, (RO.beside (wr := [(ra_1, .inr (0, [.ref mr_1, .long (M_1 0)])), (mr_1, .inl (dA 1, 32, .inr (.inl (fun j => M_1 (j + 1)))))]) hP hD [] [0, 1] rfl rfl (by decide))⟩) rfl rfl hl.1 rfl (lv_room (Nat.le_of_ble_eq_true rfl)) dX17_of_44 ⟨by first | decide | omega | (show _ ≤ (9 : Nat); omega), by first | decide | omega | (show _ ≤ (150 : Nat); omega)⟩) hP hD hS hA [] [0, 1] rfl rfl (by decide) (by decide) (fun E ce q9 u9 t9 H locs ht9 hp9 hb9 hz hP hS h1 h2 h3 => ?_) (fun u9 ra9 H locs hq hX hz hk hP hD hS => ?_)
    · have hD := hD.sub (ws' := [(ra_1, .inr (0, [.ref mr_1, .long (M_1 0)])), (mr_1, .inl (dA 1, 32, .inr (.inl (fun j => M_1 (j + 1)))))]) [0, 1] (by decide) rfl
      have hP : va_P (dC, dI) vwCl [(ra_1, .inr (0, [.ref mr_1, .long (M_1 0)])), (mr_1, .inl (dA 1, 32, .inr (.inl (fun j => M_1 (j + 1)))))] H := hP
      have hD : va_D A [(ra_1, .inr (0, [.ref mr_1, .long (M_1 0)])), (mr_1, .inl (dA 1, 32, .inr (.inl (fun j => M_1 (j + 1)))))] := hD
      subst hb9
      subst hQe
      exact vx_out (fun x h => (hnoH x h).elim) hlocks h1 h2 h3 (fun t10 e10 _ => ⟨(), trivial, (dual_n1 (p := p0) (q := q0) (r := r0) (by omega) e_1 hp9).elim, hS.F e10⟩) hS.2.2 (by first | decide | omega) (by first | decide | omega)
    obtain ⟨ra_2, rfl⟩ : ∃ z, z = ra9 := ⟨_, rfl⟩
    obtain ⟨mr_2, M_2⟩ := u9
    have e_2 := hq
    have sm_2 : MSm M_2 := scaS_sm ⟨by decide, by decide⟩ (by decide) sm_1 e_2
    clear hq
    have hP : va_P (dC, dI) vwCl [(ra_1, .inr (0, [.ref mr_1, .long (M_1 0)])), (mr_1, .inl (dA 1, 32, .inr (.inl (fun j => M_1 (j + 1))))), (ra_2, .inr (0, [.ref mr_2, .long (M_2 0)])), (mr_2, .inl (dA 1, 32, .inr (.inl (fun j => M_2 (j + 1)))))] H := hP
    have hD : va_D A [(ra_1, .inr (0, [.ref mr_1, .long (M_1 0)])), (mr_1, .inl (dA 1, 32, .inr (.inl (fun j => M_1 (j + 1))))), (ra_2, .inr (0, [.ref mr_2, .long (M_2 0)])), (mr_2, .inl (dA 1, 32, .inr (.inl (fun j => M_2 (j + 1)))))] := hD
    have hF9 := va_free (wc := []) hD hS (fun q h => hA q h) [] rfl
    refine x_r (wc := []) (wr := [(ra_1, .inr (0, [.ref mr_1, .long (M_1 0)])), (mr_1, .inl (dA 1, 32, .inr (.inl (fun j => M_1 (j + 1))))), (ra_2, .inr (0, [.ref mr_2, .long (M_2 0)])), (mr_2, .inl (dA 1, 32, .inr (.inl (fun j => M_2 (j + 1)))))]) (vx_runV (As := [.ref ma, .ref ra_2]) (rest := []) ⟨hx, hb, hml, hown, hts⟩ (x5_product2 Z (va_A [] H.size) H.size (fun q h => Or.inr h) Y ga sg sr p0 q0 r0 ma mr M ra_2 mr_2 M_2 sM sm_2) (cwV 2 hts (lw_V q822 q652 q653 q101 q654) rfl rfl rfl (by decide +kernel) ⟨Nat.le_of_ble_eq_true rfl, Nat.le_of_ble_eq_true rfl⟩) (gP_V (va_recv hK (hR1.up hS) (ci := 1) (q0 := 0) rfl rfl) hG hS (fun q _ h => hF9 q h) ⟨rfl, (hR0.to hS (fun q _ h => hF9 q h)), (RO.beside (wr := [(ra_2, .inr (0, [.ref mr_2, .long (M_2 0)])), (mr_2, .inl (dA 1, 32, .inr (.inl (fun j => M_2 (j + 1)))))]) hP hD [] [2, 3] rfl rfl (by decide)), (hAG.to hS (fun q _ h => hF9 q h))⟩) rfl rfl hl.1 rfl (lv_room (Nat.le_of_ble_eq_true rfl)) dX17_of_47 ⟨by first | decide | omega | (show _ ≤ (9 : Nat); omega), by first | decide | omega | (show _ ≤ (150 : Nat); omega)⟩) hP hD hS hA [] [0, 1, 2, 3] rfl rfl (by decide) (by decide) (fun E ce q9 u9 t9 H locs ht9 hp9 hb9 hz hP hS h1 h2 h3 => ?_) (fun u9 ra9 H locs hq hX hz hk hP hD hS => ?_)
    · have hD := hD.sub (ws' := [(ra_1, .inr (0, [.ref mr_1, .long (M_1 0)])), (mr_1, .inl (dA 1, 32, .inr (.inl (fun j => M_1 (j + 1))))), (ra_2, .inr (0, [.ref mr_2, .long (M_2 0)])), (mr_2, .inl (dA 1, 32, .inr (.inl (fun j => M_2 (j + 1)))))]) [0, 1, 2, 3] (by decide) rfl
      have hP : va_P (dC, dI) vwCl [(ra_1, .inr (0, [.ref mr_1, .long (M_1 0)])), (mr_1, .inl (dA 1, 32, .inr (.inl (fun j => M_1 (j + 1))))), (ra_2, .inr (0, [.ref mr_2, .long (M_2 0)])), (mr_2, .inl (dA 1, 32, .inr (.inl (fun j => M_2 (j + 1)))))] H := hP
      have hD : va_D A [(ra_1, .inr (0, [.ref mr_1, .long (M_1 0)])), (mr_1, .inl (dA 1, 32, .inr (.inl (fun j => M_1 (j + 1))))), (ra_2, .inr (0, [.ref mr_2, .long (M_2 0)])), (mr_2, .inl (dA 1, 32, .inr (.inl (fun j => M_2 (j + 1)))))] := hD
      subst hb9
      subst hQe
      exact vx_out (fun x h => (hnoH x h).elim) hlocks h1 h2 h3 (fun t10 e10 _ => ⟨(), trivial, (dual_n2 hn sM e_1 e_2 hp9).elim, hS.F e10⟩) hS.2.2 (by first | decide | omega) (by first | decide | omega)
    obtain ⟨ra_3, rfl⟩ : ∃ z, z = ra9 := ⟨_, rfl⟩
    obtain ⟨mr_3, M_3⟩ := u9
    have e_3 := hq
    have sm_3 : MSm M_3 := mulS_sm sM sm_2 e_3
    clear hq
    have hP : va_P (dC, dI) vwCl [(ra_1, .inr (0, [.ref mr_1, .long (M_1 0)])), (mr_1, .inl (dA 1, 32, .inr (.inl (fun j => M_1 (j + 1))))), (ra_2, .inr (0, [.ref mr_2, .long (M_2 0)])), (mr_2, .inl (dA 1, 32, .inr (.inl (fun j => M_2 (j + 1))))), (ra_3, .inr (0, [.ref mr_3, .long (M_3 0)])), (mr_3, .inl (dA 1, 32, .inr (.inl (fun j => M_3 (j + 1)))))] H := hP
    have hD : va_D A [(ra_1, .inr (0, [.ref mr_1, .long (M_1 0)])), (mr_1, .inl (dA 1, 32, .inr (.inl (fun j => M_1 (j + 1))))), (ra_2, .inr (0, [.ref mr_2, .long (M_2 0)])), (mr_2, .inl (dA 1, 32, .inr (.inl (fun j => M_2 (j + 1))))), (ra_3, .inr (0, [.ref mr_3, .long (M_3 0)])), (mr_3, .inl (dA 1, 32, .inr (.inl (fun j => M_3 (j + 1)))))] := hD
    subst hQe
    refine vx_ret ?_
    refine W.widen (k := 9) (n := 150) (by first | decide | omega) (by first | decide | omega) ?_
    exact W.aret (v := .ref ra_3) hx hb hr (Or.inl ⟨_, rfl⟩) (Or.inr ⟨_, rfl⟩) (fun tz ht hW => ⟨⟨(mr_3, M_3), ra_3, rfl, (one_5 hr0 (dual_s hn sM e_1 e_2 e_3)), B1r_at ht (hP.sub [4, 5] rfl) (hD.sub [4, 5] (by decide) rfl) trivial⟩, hS.F ht⟩) hS.2.2 dX17_of_50
set_option maxHeartbeats 4000000 in
theorem xo6 {l : Launch} {dC : Nat → ClassId} {dI : Nat → Nat → Nat} {dA : Nat → ClassId} {s0 : State} {b0 : Addr} (Z : Z0 l dC dI dA s0 b0) (A : Nat → Prop) (sz : Nat) (hA : ∀ q : Nat, sz ≤ q → A q) {σ : Nat → Nat} (Y : SS (dC, dI) dA σ s0) (ao : Nat) (ga sg : Nat) (sr : Nat → Nat) (p0 q0 r0 : Nat) (ma mr : Nat) (M : MV) (sM : MSm M) (pM : MSp (2 ^ (p0 + q0 + r0)) M) : vx_Met l yX38_of (ws_ yX38_of cX38_of 3 (some (.object "BladeAlgebra$Multi"))) ({ frames := 9, cells := 9, slots := 150, locals := 540 } : Room) (gP [.ref ao, .ref ga, .ref ma] s0 A (fun H => H.size = sz ∧ RO A (dC, dI) [(ma, .inr (0, [.ref mr, .long (M 0)])), (mr, .inl (dA 1, 32, .inr (.inl (fun j => M (j + 1)))))] H ∧ AG A (dC, dI) dA ga sg sr p0 q0 r0 H)) (va_Qr (S := Nat × MV) (fun u => oneS 6 p0 q0 r0 M = (nI 0, some u.2)) (B1r (dC, dI) A (fun u q => MA dA q u.1 u.2) (fun _ _ _ => True)) A) (vx_X (S := Unit) (fun _ => True) (fun _ E _ _ => (E = "java/lang/IllegalStateException" ∧ oneS 6 p0 q0 r0 M = (nI 4, none)) ∨ (E = "BladeAlgebra$Unfit" ∧ oneS 6 p0 q0 r0 M = (nI 3, none))) A) 9 150 A := by
  refine vx_ofW (cc := cX38_of) (maxL := 3) (ret := (some (.object "BladeAlgebra$Multi"))) (by decide) rfl ?_
  intro p e s m args below meth c s₁ B hml hnoH hv
  obtain ⟨hav, hG, hsz, hR0, hAG⟩ := hv
  have hx := B.exec
  have hb := B.bytes
  have hr := B.returns
  have hts := atoms_spec (ws := (ws_ yX38_of cX38_of 3 (some (.object "BladeAlgebra$Multi")))) B.pre
  have hts : ∀ w ∈ lw_all, w.before _ s = true := fun w h => hts w (List.mem_cons_of_mem _ h)
  have hown : s.vm.findClass RX38 = some m.cls := findClass_of_methodNamed B.named
  have hlocks := B.notSynchronized
  have hK := hG.K Z
  subst hsz
  have hS : va_S A s.heap s.heap [] := va_S.rf
  have hP : va_P (dC, dI) vwCl [] s.heap := fun k q h => by simp at h
  have hD : va_D A [] := ⟨fun i j p q h => by simp at h, fun k q h => by simp at h⟩
  have hl := lv_entry ([.ref ao, .ref ga, .ref ma]) (n := 3) (Nat.le_of_ble_eq_true rfl)
  rw [show entryFrame m args 3 = entryFrame m ([.ref ao, .ref ga, .ref ma] : List Value).toArray 3 from by rw [hav], lg_entry_eq]
  generalize (lg_sl ([.ref ao, .ref ga, .ref ma]) ++ List.replicate (3 - (lg_sl ([.ref ao, .ref ga, .ref ma])).length) Slot.unset).toArray = ls at hl ⊢
  have hl : lv_has ls 3 [(0, .ref ao), (1, .ref ga), (2, .ref ma)] := hl
  generalize hQe : vx_MQ below _ _ _ s _ _ _ = Q
  change W p l e ({ frames := 9, cells := 9, slots := 150, locals := 540 } : Room) s m args below meth c s.heap [] 0 0 Q (F0 m 0 ls [])
  have hn := hAG.1
  have h5 := pow5 hn
  have hR1 := hAG.2.1
  refine lv_aload_n hx hb dX38_of_0 rfl (lv_at hl 2 rfl) ?_
  refine lv_iconst (v := nI 0) hx hb dX38_of_1 (by decide) ?_
  refine lv_bipush (v := nI 21) hx hb dX38_of_2 (by decide) ?_
  obtain ⟨gr, Yg⟩ : ∃ g, SG (dC, dI) dA g s0 := ⟨_, SS.gr Y⟩
  have hF9 := va_free (wc := []) hD hS (fun q h => hA q h) [] rfl
  refine c_r (wr := []) (va_runV (As := [.int (nI 0), .int (nI 21)]) (rest := []) ⟨hx, hb, hml, hown, hts⟩ (x6_signed Z (va_A [] s.heap.size) s.heap.size (fun q h => Or.inr h) gr Yg ma mr M 0 21 sM (by decide) (by decide)) (cwV 2 hts (lw_V q826 q757 q758 q102 q759) rfl rfl rfl (by decide +kernel) ⟨Nat.le_of_ble_eq_true rfl, Nat.le_of_ble_eq_true rfl⟩) (gP_V (va_recv hK (hR0.up hS) (ci := 0) (q0 := 0) rfl rfl) hG hS (fun q _ h => hF9 q h) ⟨rfl, (hR0.to hS (fun q _ h => hF9 q h))⟩) rfl rfl hl.1 rfl (lv_room (Nat.le_of_ble_eq_true rfl)) dX38_of_4 ⟨by first | decide | omega | (show _ ≤ (9 : Nat); omega), by first | decide | omega | (show _ ≤ (150 : Nat); omega)⟩) hP hD hS hA [] [] rfl rfl (by decide) (by decide) (fun u9 ra9 H locs hq hX hz hk hP hD hS => ?_)
  obtain ⟨ra_1, rfl⟩ : ∃ z, z = ra9 := ⟨_, rfl⟩
  obtain ⟨mr_1, rfl⟩ : ∃ z, z = u9 := ⟨_, rfl⟩
  have hP : va_P (dC, dI) vwCl [(ra_1, .inr (0, [.ref mr_1, .long ((redS (M 0) (sgdF 0 21 M)) 0)])), (mr_1, .inl (dA 1, 32, .inr (.inl (fun j => (redS (M 0) (sgdF 0 21 M)) (j + 1)))))] H := hP
  have hD : va_D A [(ra_1, .inr (0, [.ref mr_1, .long ((redS (M 0) (sgdF 0 21 M)) 0)])), (mr_1, .inl (dA 1, 32, .inr (.inl (fun j => (redS (M 0) (sgdF 0 21 M)) (j + 1)))))] := hD
  have hM9 : ∀ i, i < 33 → (redS (M 0) (sgdF 0 21 M)) i = (trnS 6 p0 q0 r0 M) i := sgd_tr (by decide) hn pM
  have e9 : ((redS (M 0) (sgdF 0 21 M)) 0) = ((trnS 6 p0 q0 r0 M) 0) := hM9 0 (by decide)
  rw [e9] at hP hD; clear e9
  have hP := P_L hP 1 (fun j => (trnS 6 p0 q0 r0 M) (j + 1)) rfl (fun j hj => hM9 (j + 1) (by omega))
  have hD := va_D.set (e := .inl (dA 1, 32, .inr (.inl (fun j => (trnS 6 p0 q0 r0 M) (j + 1))))) hD (p := 1) rfl
  have hP : va_P (dC, dI) vwCl [(ra_1, .inr (0, [.ref mr_1, .long ((trnS 6 p0 q0 r0 M) 0)])), (mr_1, .inl (dA 1, 32, .inr (.inl (fun j => (trnS 6 p0 q0 r0 M) (j + 1)))))] H := hP
  have hD : va_D A [(ra_1, .inr (0, [.ref mr_1, .long ((trnS 6 p0 q0 r0 M) 0)])), (mr_1, .inl (dA 1, 32, .inr (.inl (fun j => (trnS 6 p0 q0 r0 M) (j + 1)))))] := hD
  clear hM9
  subst hQe
  refine vx_ret ?_
  refine W.widen (k := 9) (n := 150) (by first | decide | omega) (by first | decide | omega) ?_
  exact W.aret (v := .ref ra_1) hx hb hr (Or.inl ⟨_, rfl⟩) (Or.inr ⟨_, rfl⟩) (fun tz ht hW => ⟨⟨(mr_1, trnS 6 p0 q0 r0 M), ra_1, rfl, rfl, B1r_at ht (hP.sub [0, 1] rfl) (hD.sub [0, 1] (by decide) rfl) trivial⟩, hS.F ht⟩) hS.2.2 dX38_of_7
set_option maxHeartbeats 4000000 in
theorem xo7 {l : Launch} {dC : Nat → ClassId} {dI : Nat → Nat → Nat} {dA : Nat → ClassId} {s0 : State} {b0 : Addr} (Z : Z0 l dC dI dA s0 b0) (A : Nat → Prop) (sz : Nat) (hA : ∀ q : Nat, sz ≤ q → A q) {σ : Nat → Nat} (Y : SS (dC, dI) dA σ s0) (ao : Nat) (ga sg : Nat) (sr : Nat → Nat) (p0 q0 r0 : Nat) (ma mr : Nat) (M : MV) (sM : MSm M) (pM : MSp (2 ^ (p0 + q0 + r0)) M) : vx_Met l yX39_of (ws_ yX39_of cX39_of 3 (some (.object "BladeAlgebra$Multi"))) ({ frames := 9, cells := 9, slots := 150, locals := 540 } : Room) (gP [.ref ao, .ref ga, .ref ma] s0 A (fun H => H.size = sz ∧ RO A (dC, dI) [(ma, .inr (0, [.ref mr, .long (M 0)])), (mr, .inl (dA 1, 32, .inr (.inl (fun j => M (j + 1)))))] H ∧ AG A (dC, dI) dA ga sg sr p0 q0 r0 H)) (va_Qr (S := Nat × MV) (fun u => oneS 7 p0 q0 r0 M = (nI 0, some u.2)) (B1r (dC, dI) A (fun u q => MA dA q u.1 u.2) (fun _ _ _ => True)) A) (vx_X (S := Unit) (fun _ => True) (fun _ E _ _ => (E = "java/lang/IllegalStateException" ∧ oneS 7 p0 q0 r0 M = (nI 4, none)) ∨ (E = "BladeAlgebra$Unfit" ∧ oneS 7 p0 q0 r0 M = (nI 3, none))) A) 9 150 A := by
  refine vx_ofW (cc := cX39_of) (maxL := 3) (ret := (some (.object "BladeAlgebra$Multi"))) (by decide) rfl ?_
  intro p e s m args below meth c s₁ B hml hnoH hv
  obtain ⟨hav, hG, hsz, hR0, hAG⟩ := hv
  have hx := B.exec
  have hb := B.bytes
  have hr := B.returns
  have hts := atoms_spec (ws := (ws_ yX39_of cX39_of 3 (some (.object "BladeAlgebra$Multi")))) B.pre
  have hts : ∀ w ∈ lw_all, w.before _ s = true := fun w h => hts w (List.mem_cons_of_mem _ h)
  have hown : s.vm.findClass RX39 = some m.cls := findClass_of_methodNamed B.named
  have hlocks := B.notSynchronized
  have hK := hG.K Z
  subst hsz
  have hS : va_S A s.heap s.heap [] := va_S.rf
  have hP : va_P (dC, dI) vwCl [] s.heap := fun k q h => by simp at h
  have hD : va_D A [] := ⟨fun i j p q h => by simp at h, fun k q h => by simp at h⟩
  have hl := lv_entry ([.ref ao, .ref ga, .ref ma]) (n := 3) (Nat.le_of_ble_eq_true rfl)
  rw [show entryFrame m args 3 = entryFrame m ([.ref ao, .ref ga, .ref ma] : List Value).toArray 3 from by rw [hav], lg_entry_eq]
  generalize (lg_sl ([.ref ao, .ref ga, .ref ma]) ++ List.replicate (3 - (lg_sl ([.ref ao, .ref ga, .ref ma])).length) Slot.unset).toArray = ls at hl ⊢
  have hl : lv_has ls 3 [(0, .ref ao), (1, .ref ga), (2, .ref ma)] := hl
  generalize hQe : vx_MQ below _ _ _ s _ _ _ = Q
  change W p l e ({ frames := 9, cells := 9, slots := 150, locals := 540 } : Room) s m args below meth c s.heap [] 0 0 Q (F0 m 0 ls [])
  have hn := hAG.1
  have h5 := pow5 hn
  have hR1 := hAG.2.1
  refine lv_aload_n hx hb dX39_of_0 rfl (lv_at hl 2 rfl) ?_
  refine lv_iconst (v := nI 0) hx hb dX39_of_1 (by decide) ?_
  refine lv_bipush (v := nI 42) hx hb dX39_of_2 (by decide) ?_
  obtain ⟨gr, Yg⟩ : ∃ g, SG (dC, dI) dA g s0 := ⟨_, SS.gr Y⟩
  have hF9 := va_free (wc := []) hD hS (fun q h => hA q h) [] rfl
  refine c_r (wr := []) (va_runV (As := [.int (nI 0), .int (nI 42)]) (rest := []) ⟨hx, hb, hml, hown, hts⟩ (x6_signed Z (va_A [] s.heap.size) s.heap.size (fun q h => Or.inr h) gr Yg ma mr M 0 42 sM (by decide) (by decide)) (cwV 2 hts (lw_V q830 q757 q758 q102 q759) rfl rfl rfl (by decide +kernel) ⟨Nat.le_of_ble_eq_true rfl, Nat.le_of_ble_eq_true rfl⟩) (gP_V (va_recv hK (hR0.up hS) (ci := 0) (q0 := 0) rfl rfl) hG hS (fun q _ h => hF9 q h) ⟨rfl, (hR0.to hS (fun q _ h => hF9 q h))⟩) rfl rfl hl.1 rfl (lv_room (Nat.le_of_ble_eq_true rfl)) dX39_of_4 ⟨by first | decide | omega | (show _ ≤ (9 : Nat); omega), by first | decide | omega | (show _ ≤ (150 : Nat); omega)⟩) hP hD hS hA [] [] rfl rfl (by decide) (by decide) (fun u9 ra9 H locs hq hX hz hk hP hD hS => ?_)
  obtain ⟨ra_1, rfl⟩ : ∃ z, z = ra9 := ⟨_, rfl⟩
  obtain ⟨mr_1, rfl⟩ : ∃ z, z = u9 := ⟨_, rfl⟩
  have hP : va_P (dC, dI) vwCl [(ra_1, .inr (0, [.ref mr_1, .long ((redS (M 0) (sgdF 0 42 M)) 0)])), (mr_1, .inl (dA 1, 32, .inr (.inl (fun j => (redS (M 0) (sgdF 0 42 M)) (j + 1)))))] H := hP
  have hD : va_D A [(ra_1, .inr (0, [.ref mr_1, .long ((redS (M 0) (sgdF 0 42 M)) 0)])), (mr_1, .inl (dA 1, 32, .inr (.inl (fun j => (redS (M 0) (sgdF 0 42 M)) (j + 1)))))] := hD
  have hM9 : ∀ i, i < 33 → (redS (M 0) (sgdF 0 42 M)) i = (trnS 7 p0 q0 r0 M) i := sgd_tr (by decide) hn pM
  have e9 : ((redS (M 0) (sgdF 0 42 M)) 0) = ((trnS 7 p0 q0 r0 M) 0) := hM9 0 (by decide)
  rw [e9] at hP hD; clear e9
  have hP := P_L hP 1 (fun j => (trnS 7 p0 q0 r0 M) (j + 1)) rfl (fun j hj => hM9 (j + 1) (by omega))
  have hD := va_D.set (e := .inl (dA 1, 32, .inr (.inl (fun j => (trnS 7 p0 q0 r0 M) (j + 1))))) hD (p := 1) rfl
  have hP : va_P (dC, dI) vwCl [(ra_1, .inr (0, [.ref mr_1, .long ((trnS 7 p0 q0 r0 M) 0)])), (mr_1, .inl (dA 1, 32, .inr (.inl (fun j => (trnS 7 p0 q0 r0 M) (j + 1)))))] H := hP
  have hD : va_D A [(ra_1, .inr (0, [.ref mr_1, .long ((trnS 7 p0 q0 r0 M) 0)])), (mr_1, .inl (dA 1, 32, .inr (.inl (fun j => (trnS 7 p0 q0 r0 M) (j + 1)))))] := hD
  clear hM9
  subst hQe
  refine vx_ret ?_
  refine W.widen (k := 9) (n := 150) (by first | decide | omega) (by first | decide | omega) ?_
  exact W.aret (v := .ref ra_1) hx hb hr (Or.inl ⟨_, rfl⟩) (Or.inr ⟨_, rfl⟩) (fun tz ht hW => ⟨⟨(mr_1, trnS 7 p0 q0 r0 M), ra_1, rfl, rfl, B1r_at ht (hP.sub [0, 1] rfl) (hD.sub [0, 1] (by decide) rfl) trivial⟩, hS.F ht⟩) hS.2.2 dX39_of_7
set_option maxHeartbeats 4000000 in
theorem xo8 {l : Launch} {dC : Nat → ClassId} {dI : Nat → Nat → Nat} {dA : Nat → ClassId} {s0 : State} {b0 : Addr} (Z : Z0 l dC dI dA s0 b0) (A : Nat → Prop) (sz : Nat) (hA : ∀ q : Nat, sz ≤ q → A q) {σ : Nat → Nat} (Y : SS (dC, dI) dA σ s0) (ao : Nat) (ga sg : Nat) (sr : Nat → Nat) (p0 q0 r0 : Nat) (ma mr : Nat) (M : MV) (sM : MSm M) (pM : MSp (2 ^ (p0 + q0 + r0)) M) : vx_Met l yX40_of (ws_ yX40_of cX40_of 3 (some (.object "BladeAlgebra$Multi"))) ({ frames := 9, cells := 9, slots := 150, locals := 540 } : Room) (gP [.ref ao, .ref ga, .ref ma] s0 A (fun H => H.size = sz ∧ RO A (dC, dI) [(ma, .inr (0, [.ref mr, .long (M 0)])), (mr, .inl (dA 1, 32, .inr (.inl (fun j => M (j + 1)))))] H ∧ AG A (dC, dI) dA ga sg sr p0 q0 r0 H)) (va_Qr (S := Nat × MV) (fun u => oneS 8 p0 q0 r0 M = (nI 0, some u.2)) (B1r (dC, dI) A (fun u q => MA dA q u.1 u.2) (fun _ _ _ => True)) A) (vx_X (S := Unit) (fun _ => True) (fun _ E _ _ => (E = "java/lang/IllegalStateException" ∧ oneS 8 p0 q0 r0 M = (nI 4, none)) ∨ (E = "BladeAlgebra$Unfit" ∧ oneS 8 p0 q0 r0 M = (nI 3, none))) A) 9 150 A := by
  refine vx_ofW (cc := cX40_of) (maxL := 3) (ret := (some (.object "BladeAlgebra$Multi"))) (by decide) rfl ?_
  intro p e s m args below meth c s₁ B hml hnoH hv
  obtain ⟨hav, hG, hsz, hR0, hAG⟩ := hv
  have hx := B.exec
  have hb := B.bytes
  have hr := B.returns
  have hts := atoms_spec (ws := (ws_ yX40_of cX40_of 3 (some (.object "BladeAlgebra$Multi")))) B.pre
  have hts : ∀ w ∈ lw_all, w.before _ s = true := fun w h => hts w (List.mem_cons_of_mem _ h)
  have hown : s.vm.findClass RX40 = some m.cls := findClass_of_methodNamed B.named
  have hlocks := B.notSynchronized
  have hK := hG.K Z
  subst hsz
  have hS : va_S A s.heap s.heap [] := va_S.rf
  have hP : va_P (dC, dI) vwCl [] s.heap := fun k q h => by simp at h
  have hD : va_D A [] := ⟨fun i j p q h => by simp at h, fun k q h => by simp at h⟩
  have hl := lv_entry ([.ref ao, .ref ga, .ref ma]) (n := 3) (Nat.le_of_ble_eq_true rfl)
  rw [show entryFrame m args 3 = entryFrame m ([.ref ao, .ref ga, .ref ma] : List Value).toArray 3 from by rw [hav], lg_entry_eq]
  generalize (lg_sl ([.ref ao, .ref ga, .ref ma]) ++ List.replicate (3 - (lg_sl ([.ref ao, .ref ga, .ref ma])).length) Slot.unset).toArray = ls at hl ⊢
  have hl : lv_has ls 3 [(0, .ref ao), (1, .ref ga), (2, .ref ma)] := hl
  generalize hQe : vx_MQ below _ _ _ s _ _ _ = Q
  change W p l e ({ frames := 9, cells := 9, slots := 150, locals := 540 } : Room) s m args below meth c s.heap [] 0 0 Q (F0 m 0 ls [])
  have hn := hAG.1
  have h5 := pow5 hn
  have hR1 := hAG.2.1
  refine lv_aload_n hx hb dX40_of_0 rfl (lv_at hl 2 rfl) ?_
  refine lv_bipush (v := nI 63) hx hb dX40_of_1 (by decide) ?_
  refine lv_bipush (v := nI 63) hx hb dX40_of_3 (by decide) ?_
  obtain ⟨gr, Yg⟩ : ∃ g, SG (dC, dI) dA g s0 := ⟨_, SS.gr Y⟩
  have hF9 := va_free (wc := []) hD hS (fun q h => hA q h) [] rfl
  refine c_r (wr := []) (va_runV (As := [.int (nI 63), .int (nI 63)]) (rest := []) ⟨hx, hb, hml, hown, hts⟩ (x6_signed Z (va_A [] s.heap.size) s.heap.size (fun q h => Or.inr h) gr Yg ma mr M 63 63 sM (by decide) (by decide)) (cwV 2 hts (lw_V q834 q757 q758 q102 q759) rfl rfl rfl (by decide +kernel) ⟨Nat.le_of_ble_eq_true rfl, Nat.le_of_ble_eq_true rfl⟩) (gP_V (va_recv hK (hR0.up hS) (ci := 0) (q0 := 0) rfl rfl) hG hS (fun q _ h => hF9 q h) ⟨rfl, (hR0.to hS (fun q _ h => hF9 q h))⟩) rfl rfl hl.1 rfl (lv_room (Nat.le_of_ble_eq_true rfl)) dX40_of_5 ⟨by first | decide | omega | (show _ ≤ (9 : Nat); omega), by first | decide | omega | (show _ ≤ (150 : Nat); omega)⟩) hP hD hS hA [] [] rfl rfl (by decide) (by decide) (fun u9 ra9 H locs hq hX hz hk hP hD hS => ?_)
  obtain ⟨ra_1, rfl⟩ : ∃ z, z = ra9 := ⟨_, rfl⟩
  obtain ⟨mr_1, rfl⟩ : ∃ z, z = u9 := ⟨_, rfl⟩
  have hP : va_P (dC, dI) vwCl [(ra_1, .inr (0, [.ref mr_1, .long ((redS (M 0) (sgdF 63 63 M)) 0)])), (mr_1, .inl (dA 1, 32, .inr (.inl (fun j => (redS (M 0) (sgdF 63 63 M)) (j + 1)))))] H := hP
  have hD : va_D A [(ra_1, .inr (0, [.ref mr_1, .long ((redS (M 0) (sgdF 63 63 M)) 0)])), (mr_1, .inl (dA 1, 32, .inr (.inl (fun j => (redS (M 0) (sgdF 63 63 M)) (j + 1)))))] := hD
  have hM9 : ∀ i, i < 33 → (redS (M 0) (sgdF 63 63 M)) i = (trnS 8 p0 q0 r0 M) i := sgd_tr (by decide) hn pM
  have e9 : ((redS (M 0) (sgdF 63 63 M)) 0) = ((trnS 8 p0 q0 r0 M) 0) := hM9 0 (by decide)
  rw [e9] at hP hD; clear e9
  have hP := P_L hP 1 (fun j => (trnS 8 p0 q0 r0 M) (j + 1)) rfl (fun j hj => hM9 (j + 1) (by omega))
  have hD := va_D.set (e := .inl (dA 1, 32, .inr (.inl (fun j => (trnS 8 p0 q0 r0 M) (j + 1))))) hD (p := 1) rfl
  have hP : va_P (dC, dI) vwCl [(ra_1, .inr (0, [.ref mr_1, .long ((trnS 8 p0 q0 r0 M) 0)])), (mr_1, .inl (dA 1, 32, .inr (.inl (fun j => (trnS 8 p0 q0 r0 M) (j + 1)))))] H := hP
  have hD : va_D A [(ra_1, .inr (0, [.ref mr_1, .long ((trnS 8 p0 q0 r0 M) 0)])), (mr_1, .inl (dA 1, 32, .inr (.inl (fun j => (trnS 8 p0 q0 r0 M) (j + 1)))))] := hD
  clear hM9
  subst hQe
  refine vx_ret ?_
  refine W.widen (k := 9) (n := 150) (by first | decide | omega) (by first | decide | omega) ?_
  exact W.aret (v := .ref ra_1) hx hb hr (Or.inl ⟨_, rfl⟩) (Or.inr ⟨_, rfl⟩) (fun tz ht hW => ⟨⟨(mr_1, trnS 8 p0 q0 r0 M), ra_1, rfl, rfl, B1r_at ht (hP.sub [0, 1] rfl) (hD.sub [0, 1] (by decide) rfl) trivial⟩, hS.F ht⟩) hS.2.2 dX40_of_8
set_option maxHeartbeats 4000000 in
theorem xo9 {l : Launch} {dC : Nat → ClassId} {dI : Nat → Nat → Nat} {dA : Nat → ClassId} {s0 : State} {b0 : Addr} (Z : Z0 l dC dI dA s0 b0) (A : Nat → Prop) (sz : Nat) (hA : ∀ q : Nat, sz ≤ q → A q) {σ : Nat → Nat} (Y : SS (dC, dI) dA σ s0) (ao : Nat) (ga sg : Nat) (sr : Nat → Nat) (p0 q0 r0 : Nat) (ma mr : Nat) (M : MV) (sM : MSm M) (pM : MSp (2 ^ (p0 + q0 + r0)) M) : vx_Met l yX33_of (ws_ yX33_of cX33_of 4 (some (.object "BladeAlgebra$Multi"))) ({ frames := 9, cells := 9, slots := 150, locals := 540 } : Room) (gP [.ref ao, .ref ga, .ref ma] s0 A (fun H => H.size = sz ∧ RO A (dC, dI) [(ma, .inr (0, [.ref mr, .long (M 0)])), (mr, .inl (dA 1, 32, .inr (.inl (fun j => M (j + 1)))))] H ∧ AG A (dC, dI) dA ga sg sr p0 q0 r0 H)) (va_Qr (S := Nat × MV) (fun u => oneS 9 p0 q0 r0 M = (nI 0, some u.2)) (B1r (dC, dI) A (fun u q => MA dA q u.1 u.2) (fun _ _ _ => True)) A) (vx_X (S := Unit) (fun _ => True) (fun _ E _ _ => (E = "java/lang/IllegalStateException" ∧ oneS 9 p0 q0 r0 M = (nI 4, none)) ∨ (E = "BladeAlgebra$Unfit" ∧ oneS 9 p0 q0 r0 M = (nI 3, none))) A) 9 150 A := by
  refine vx_ofW (cc := cX33_of) (maxL := 4) (ret := (some (.object "BladeAlgebra$Multi"))) (by decide) rfl ?_
  intro p e s m args below meth c s₁ B hml hnoH hv
  obtain ⟨hav, hG, hsz, hR0, hAG⟩ := hv
  have hx := B.exec
  have hb := B.bytes
  have hr := B.returns
  have hts := atoms_spec (ws := (ws_ yX33_of cX33_of 4 (some (.object "BladeAlgebra$Multi")))) B.pre
  have hts : ∀ w ∈ lw_all, w.before _ s = true := fun w h => hts w (List.mem_cons_of_mem _ h)
  have hown : s.vm.findClass RX33 = some m.cls := findClass_of_methodNamed B.named
  have hlocks := B.notSynchronized
  have hK := hG.K Z
  subst hsz
  have hS : va_S A s.heap s.heap [] := va_S.rf
  have hP : va_P (dC, dI) vwCl [] s.heap := fun k q h => by simp at h
  have hD : va_D A [] := ⟨fun i j p q h => by simp at h, fun k q h => by simp at h⟩
  have hl := lv_entry ([.ref ao, .ref ga, .ref ma]) (n := 4) (Nat.le_of_ble_eq_true rfl)
  rw [show entryFrame m args 4 = entryFrame m ([.ref ao, .ref ga, .ref ma] : List Value).toArray 4 from by rw [hav], lg_entry_eq]
  generalize (lg_sl ([.ref ao, .ref ga, .ref ma]) ++ List.replicate (4 - (lg_sl ([.ref ao, .ref ga, .ref ma])).length) Slot.unset).toArray = ls at hl ⊢
  have hl : lv_has ls 4 [(0, .ref ao), (1, .ref ga), (2, .ref ma)] := hl
  generalize hQe : vx_MQ below _ _ _ s _ _ _ = Q
  change W p l e ({ frames := 9, cells := 9, slots := 150, locals := 540 } : Room) s m args below meth c s.heap [] 0 0 Q (F0 m 0 ls [])
  have hn := hAG.1
  have h5 := pow5 hn
  have hR1 := hAG.2.1
  refine lv_aload_n hx hb dX33_of_0 rfl (lv_at hl 1 rfl) ?_
  refine lv_aload_n hx hb dX33_of_1 rfl (lv_at hl 2 rfl) ?_
  refine lv_aload_n hx hb dX33_of_2 rfl (lv_at hl 2 rfl) ?_
  have hF9 := va_free (wc := []) hD hS (fun q h => hA q h) [] rfl
  refine c_r (wr := []) (va_runSN (As := [.ref ma]) (rest := [.ref ma, .ref ga]) ⟨hx, hb, hml, hown, hts⟩ (x1_reverse Z (va_A [] s.heap.size) s.heap.size (fun q h => Or.inr h) Y p0 q0 r0 ma mr M hn sM pM) ⟨va_cnB 1 hts (lw_meth q755) rfl rfl rfl (va_Nw.warmM hG.1 (va_Nw.of rfl (Z.2.1 _ q765))) (hts _ q96) (by decide +kernel) ⟨Nat.le_of_ble_eq_true rfl, Nat.le_of_ble_eq_true rfl⟩, hts _ q754, trivial⟩ (gP_S hG hS (fun q _ h => hF9 q h) ⟨rfl, (hR0.to hS (fun q _ h => hF9 q h))⟩) rfl rfl hl.1 rfl (lv_room (Nat.le_of_ble_eq_true rfl)) dX33_of_3 ⟨by first | decide | omega | (show _ ≤ (9 : Nat); omega), by first | decide | omega | (show _ ≤ (150 : Nat); omega)⟩) hP hD hS hA [] [] rfl rfl (by decide) (by decide) (fun u9 ra9 H locs hq hX hz hk hP hD hS => ?_)
  obtain ⟨ra_1, rfl⟩ : ∃ z, z = ra9 := ⟨_, rfl⟩
  obtain ⟨mr_1, rfl⟩ : ∃ z, z = u9 := ⟨_, rfl⟩
  have hP : va_P (dC, dI) vwCl [(ra_1, .inr (0, [.ref mr_1, .long ((trnS 0 p0 q0 r0 M) 0)])), (mr_1, .inl (dA 1, 32, .inr (.inl (fun j => (trnS 0 p0 q0 r0 M) (j + 1)))))] H := hP
  have hD : va_D A [(ra_1, .inr (0, [.ref mr_1, .long ((trnS 0 p0 q0 r0 M) 0)])), (mr_1, .inl (dA 1, 32, .inr (.inl (fun j => (trnS 0 p0 q0 r0 M) (j + 1)))))] := hD
  have hF9 := va_free (wc := []) hD hS (fun q h => hA q h) [] rfl
  refine x_r (wc := []) (wr := [(ra_1, .inr (0, [.ref mr_1, .long ((trnS 0 p0 q0 r0 M) 0)])), (mr_1, .inl (dA 1, 32, .inr (.inl (fun j => (trnS 0 p0 q0 r0 M) (j + 1)))))]) (vx_runV (As := [.ref ma, .ref ra_1]) (rest := []) ⟨hx, hb, hml, hown, hts⟩ (x5_product2 Z (va_A [] H.size) H.size (fun q h => Or.inr h) Y ga sg sr p0 q0 r0 ma mr M ra_1 mr_1 (trnS 0 p0 q0 r0 M) sM (trnS_sm hn sM)) (cwV 2 hts (lw_V q766 q652 q653 q101 q654) rfl rfl rfl (by decide +kernel) ⟨Nat.le_of_ble_eq_true rfl, Nat.le_of_ble_eq_true rfl⟩) (gP_V (va_recv hK (hR1.up hS) (ci := 1) (q0 := 0) rfl rfl) hG hS (fun q _ h => hF9 q h) ⟨rfl, (hR0.to hS (fun q _ h => hF9 q h)), (RO.beside (wr := [(ra_1, .inr (0, [.ref mr_1, .long ((trnS 0 p0 q0 r0 M) 0)])), (mr_1, .inl (dA 1, 32, .inr (.inl (fun j => (trnS 0 p0 q0 r0 M) (j + 1)))))]) hP hD [] [0, 1] rfl rfl (by decide)), (hAG.to hS (fun q _ h => hF9 q h))⟩) rfl rfl hl.1 rfl (lv_room (Nat.le_of_ble_eq_true rfl)) dX33_of_6 ⟨by first | decide | omega | (show _ ≤ (9 : Nat); omega), by first | decide | omega | (show _ ≤ (150 : Nat); omega)⟩) hP hD hS hA [] [0, 1] rfl rfl (by decide) (by decide) (fun E ce q9 u9 t9 H locs ht9 hp9 hb9 hz hP hS h1 h2 h3 => ?_) (fun u9 ra9 H locs hq hX hz hk hP hD hS => ?_)
  · have hD := hD.sub (ws' := [(ra_1, .inr (0, [.ref mr_1, .long ((trnS 0 p0 q0 r0 M) 0)])), (mr_1, .inl (dA 1, 32, .inr (.inl (fun j => (trnS 0 p0 q0 r0 M) (j + 1)))))]) [0, 1] (by decide) rfl
    have hP : va_P (dC, dI) vwCl [(ra_1, .inr (0, [.ref mr_1, .long ((trnS 0 p0 q0 r0 M) 0)])), (mr_1, .inl (dA 1, 32, .inr (.inl (fun j => (trnS 0 p0 q0 r0 M) (j + 1)))))] H := hP
    have hD : va_D A [(ra_1, .inr (0, [.ref mr_1, .long ((trnS 0 p0 q0 r0 M) 0)])), (mr_1, .inl (dA 1, 32, .inr (.inl (fun j => (trnS 0 p0 q0 r0 M) (j + 1)))))] := hD
    subst hb9
    subst hQe
    exact vx_out (fun x h => (hnoH x h).elim) hlocks h1 h2 h3 (fun t10 e10 _ => ⟨(), trivial, Or.inr ⟨rfl, one_9 (inv_x1 hp9)⟩, hS.F e10⟩) hS.2.2 (by first | decide | omega) (by first | decide | omega)
  obtain ⟨ra_2, rfl⟩ : ∃ z, z = ra9 := ⟨_, rfl⟩
  obtain ⟨mr_2, M_2⟩ := u9
  have e_2 := hq
  have sm_2 : MSm M_2 := mulS_sm sM (trnS_sm hn sM) e_2
  clear hq
  have hP : va_P (dC, dI) vwCl [(ra_1, .inr (0, [.ref mr_1, .long ((trnS 0 p0 q0 r0 M) 0)])), (mr_1, .inl (dA 1, 32, .inr (.inl (fun j => (trnS 0 p0 q0 r0 M) (j + 1))))), (ra_2, .inr (0, [.ref mr_2, .long (M_2 0)])), (mr_2, .inl (dA 1, 32, .inr (.inl (fun j => M_2 (j + 1)))))] H := hP
  have hD : va_D A [(ra_1, .inr (0, [.ref mr_1, .long ((trnS 0 p0 q0 r0 M) 0)])), (mr_1, .inl (dA 1, 32, .inr (.inl (fun j => (trnS 0 p0 q0 r0 M) (j + 1))))), (ra_2, .inr (0, [.ref mr_2, .long (M_2 0)])), (mr_2, .inl (dA 1, 32, .inr (.inl (fun j => M_2 (j + 1)))))] := hD
  refine lv_astore_n (lv' := [(3, .ref ra_2), (0, .ref ao), (1, .ref ga), (2, .ref ma)]) hx hb dX33_of_9 rfl hl (by decide) rfl (fun ls hl => ?_)
  refine lv_aload_n hx hb dX33_of_10 rfl (lv_at hl 0 rfl) ?_
  obtain ⟨gr, Yg⟩ : ∃ g, SG (dC, dI) dA g s0 := ⟨_, SS.gr Y⟩
  refine s_i (va_runV (As := []) (rest := []) ⟨hx, hb, hml, hown, hts⟩ (x6_isOtherScalar Z gr Yg ra_2 mr_2 M_2) (cwV 0 hts (lw_V q767 q768 q769 q102 q770) rfl rfl rfl (by decide +kernel) ⟨Nat.le_of_ble_eq_true rfl, Nat.le_of_ble_eq_true rfl⟩) (gP_V (va_recv hK hP (ci := 0) (q0 := 2) rfl rfl) hG hS (fun q _ h => h.elim) (hP.sub (ws' := [(ra_2, .inr (0, [.ref mr_2, .long (M_2 0)])), (mr_2, .inl (dA 1, 32, .inr (.inl (fun j => M_2 (j + 1)))))]) [2, 3] rfl)) rfl rfl hl.1 rfl (lv_room (Nat.le_of_ble_eq_true rfl)) dX33_of_11 ⟨by first | decide | omega | (show _ ≤ (9 : Nat); omega), by first | decide | omega | (show _ ≤ (150 : Nat); omega)⟩) ?_
  refine e_i (y := bI (isNumB M_2 32)) (congrArg bI (num_gr _)) ?_
  have hF9 := va_free (wc := []) hD hS (fun q h => hA q h) [] rfl
  refine x_v (wc := []) (wr := [(ra_1, .inr (0, [.ref mr_1, .long ((trnS 0 p0 q0 r0 M) 0)])), (mr_1, .inl (dA 1, 32, .inr (.inl (fun j => (trnS 0 p0 q0 r0 M) (j + 1))))), (ra_2, .inr (0, [.ref mr_2, .long (M_2 0)])), (mr_2, .inl (dA 1, 32, .inr (.inl (fun j => M_2 (j + 1)))))]) (vx_runSN (As := [.int (bI (isNumB M_2 32))]) (rest := []) ⟨hx, hb, hml, hown, hts⟩ (x1_possible Z (va_A [] H.size) H.size (fun q h => Or.inr h) (SS.st Y) (σ 52) (SS.st2 Y) (isNumB M_2 32)) ⟨va_cnB 1 hts (lw_meth q777) rfl rfl rfl (va_Nw.warmM hG.1 (va_Nw.of rfl (Z.2.1 _ q775))) (hts _ q96) (by decide +kernel) ⟨Nat.le_of_ble_eq_true rfl, Nat.le_of_ble_eq_true rfl⟩, hts _ q776, trivial⟩ (gP_S hG hS (fun q _ h => hF9 q h) rfl) rfl rfl hl.1 rfl (lv_room (Nat.le_of_ble_eq_true rfl)) dX33_of_14 ⟨by first | decide | omega | (show _ ≤ (9 : Nat); omega), by first | decide | omega | (show _ ≤ (150 : Nat); omega)⟩) hP hD hS hA [] [0, 1, 2, 3] rfl rfl (by decide) (by decide) (fun E ce q9 u9 t9 H locs ht9 hp9 hb9 hz hP hS h1 h2 h3 => ?_) (fun u9 H locs hq hX hz hk hP hD hS => ?_)
  · have hD := hD.sub (ws' := [(ra_1, .inr (0, [.ref mr_1, .long ((trnS 0 p0 q0 r0 M) 0)])), (mr_1, .inl (dA 1, 32, .inr (.inl (fun j => (trnS 0 p0 q0 r0 M) (j + 1))))), (ra_2, .inr (0, [.ref mr_2, .long (M_2 0)])), (mr_2, .inl (dA 1, 32, .inr (.inl (fun j => M_2 (j + 1)))))]) [0, 1, 2, 3] (by decide) rfl
    have hP : va_P (dC, dI) vwCl [(ra_1, .inr (0, [.ref mr_1, .long ((trnS 0 p0 q0 r0 M) 0)])), (mr_1, .inl (dA 1, 32, .inr (.inl (fun j => (trnS 0 p0 q0 r0 M) (j + 1))))), (ra_2, .inr (0, [.ref mr_2, .long (M_2 0)])), (mr_2, .inl (dA 1, 32, .inr (.inl (fun j => M_2 (j + 1)))))] H := hP
    have hD : va_D A [(ra_1, .inr (0, [.ref mr_1, .long ((trnS 0 p0 q0 r0 M) 0)])), (mr_1, .inl (dA 1, 32, .inr (.inl (fun j => (trnS 0 p0 q0 r0 M) (j + 1))))), (ra_2, .inr (0, [.ref mr_2, .long (M_2 0)])), (mr_2, .inl (dA 1, 32, .inr (.inl (fun j => M_2 (j + 1)))))] := hD
    subst hb9
    subst hQe
    exact vx_out (fun x h => (hnoH x h).elim) hlocks h1 h2 h3 (fun t10 e10 _ => ⟨(), trivial, Or.inl ⟨rfl, one_9 (inv_n e_2 hp9)⟩, hS.F e10⟩) hS.2.2 (by first | decide | omega) (by first | decide | omega)
  have hg14 : (isNumB M_2 32) = true := hq
  clear hq
  have hP : va_P (dC, dI) vwCl [(ra_1, .inr (0, [.ref mr_1, .long ((trnS 0 p0 q0 r0 M) 0)])), (mr_1, .inl (dA 1, 32, .inr (.inl (fun j => (trnS 0 p0 q0 r0 M) (j + 1))))), (ra_2, .inr (0, [.ref mr_2, .long (M_2 0)])), (mr_2, .inl (dA 1, 32, .inr (.inl (fun j => M_2 (j + 1)))))] H := hP
  have hD : va_D A [(ra_1, .inr (0, [.ref mr_1, .long ((trnS 0 p0 q0 r0 M) 0)])), (mr_1, .inl (dA 1, 32, .inr (.inl (fun j => (trnS 0 p0 q0 r0 M) (j + 1))))), (ra_2, .inr (0, [.ref mr_2, .long (M_2 0)])), (mr_2, .inl (dA 1, 32, .inr (.inl (fun j => M_2 (j + 1)))))] := hD
  refine lv_aload_n hx hb dX33_of_17 rfl (lv_at hl 3 rfl) ?_
  have hF9 := va_free (wc := []) hD hS (fun q h => hA q h) [] rfl
  refine c_r (wr := [(ra_1, .inr (0, [.ref mr_1, .long ((trnS 0 p0 q0 r0 M) 0)])), (mr_1, .inl (dA 1, 32, .inr (.inl (fun j => (trnS 0 p0 q0 r0 M) (j + 1))))), (ra_2, .inr (0, [.ref mr_2, .long (M_2 0)])), (mr_2, .inl (dA 1, 32, .inr (.inl (fun j => M_2 (j + 1)))))]) (va_runSN (As := [.ref ma]) (rest := []) ⟨hx, hb, hml, hown, hts⟩ (x1_reverse Z (va_A [] H.size) H.size (fun q h => Or.inr h) Y p0 q0 r0 ma mr M hn sM pM) ⟨va_cnB 1 hts (lw_meth q755) rfl rfl rfl (va_Nw.warmM hG.1 (va_Nw.of rfl (Z.2.1 _ q765))) (hts _ q96) (by decide +kernel) ⟨Nat.le_of_ble_eq_true rfl, Nat.le_of_ble_eq_true rfl⟩, hts _ q754, trivial⟩ (gP_S hG hS (fun q _ h => hF9 q h) ⟨rfl, (hR0.to hS (fun q _ h => hF9 q h))⟩) rfl rfl hl.1 rfl (lv_room (Nat.le_of_ble_eq_true rfl)) dX33_of_18 ⟨by first | decide | omega | (show _ ≤ (9 : Nat); omega), by first | decide | omega | (show _ ≤ (150 : Nat); omega)⟩) hP hD hS hA [] [0, 1, 2, 3] rfl rfl (by decide) (by decide) (fun u9 ra9 H locs hq hX hz hk hP hD hS => ?_)
  obtain ⟨ra_3, rfl⟩ : ∃ z, z = ra9 := ⟨_, rfl⟩
  obtain ⟨mr_3, rfl⟩ : ∃ z, z = u9 := ⟨_, rfl⟩
  have hP : va_P (dC, dI) vwCl [(ra_1, .inr (0, [.ref mr_1, .long ((trnS 0 p0 q0 r0 M) 0)])), (mr_1, .inl (dA 1, 32, .inr (.inl (fun j => (trnS 0 p0 q0 r0 M) (j + 1))))), (ra_2, .inr (0, [.ref mr_2, .long (M_2 0)])), (mr_2, .inl (dA 1, 32, .inr (.inl (fun j => M_2 (j + 1))))), (ra_3, .inr (0, [.ref mr_3, .long ((trnS 0 p0 q0 r0 M) 0)])), (mr_3, .inl (dA 1, 32, .inr (.inl (fun j => (trnS 0 p0 q0 r0 M) (j + 1)))))] H := hP
  have hD : va_D A [(ra_1, .inr (0, [.ref mr_1, .long ((trnS 0 p0 q0 r0 M) 0)])), (mr_1, .inl (dA 1, 32, .inr (.inl (fun j => (trnS 0 p0 q0 r0 M) (j + 1))))), (ra_2, .inr (0, [.ref mr_2, .long (M_2 0)])), (mr_2, .inl (dA 1, 32, .inr (.inl (fun j => M_2 (j + 1))))), (ra_3, .inr (0, [.ref mr_3, .long ((trnS 0 p0 q0 r0 M) 0)])), (mr_3, .inl (dA 1, 32, .inr (.inl (fun j => (trnS 0 p0 q0 r0 M) (j + 1)))))] := hD
  refine lv_aload_n hx hb dX33_of_21 rfl (lv_at hl 0 rfl) ?_
  have hF9 := va_free (wc := []) hD hS (fun q h => hA q h) [] rfl
  refine x_r (wc := []) (wr := [(ra_1, .inr (0, [.ref mr_1, .long ((trnS 0 p0 q0 r0 M) 0)])), (mr_1, .inl (dA 1, 32, .inr (.inl (fun j => (trnS 0 p0 q0 r0 M) (j + 1))))), (ra_2, .inr (0, [.ref mr_2, .long (M_2 0)])), (mr_2, .inl (dA 1, 32, .inr (.inl (fun j => M_2 (j + 1))))), (ra_3, .inr (0, [.ref mr_3, .long ((trnS 0 p0 q0 r0 M) 0)])), (mr_3, .inl (dA 1, 32, .inr (.inl (fun j => (trnS 0 p0 q0 r0 M) (j + 1)))))]) (vx_runSN (As := [.ref ra_3, .ref ra_2]) (rest := []) ⟨hx, hb, hml, hown, hts⟩ (x1_by Z (va_A [] H.size) H.size (fun q h => Or.inr h) Y ra_3 mr_3 (trnS 0 p0 q0 r0 M) ra_2 mr_2 M_2 (trnS_sm hn sM) sm_2 (isNumB_1 hg14)) ⟨va_cnB 2 hts (lw_meth q796) rfl rfl rfl (va_Nw.warmM hG.1 (va_Nw.of rfl (Z.2.1 _ q794))) (hts _ q96) (by decide +kernel) ⟨Nat.le_of_ble_eq_true rfl, Nat.le_of_ble_eq_true rfl⟩, hts _ q795, trivial⟩ (gP_S hG hS (fun q _ h => hF9 q h) ⟨rfl, (RO.beside (wr := [(ra_3, .inr (0, [.ref mr_3, .long ((trnS 0 p0 q0 r0 M) 0)])), (mr_3, .inl (dA 1, 32, .inr (.inl (fun j => (trnS 0 p0 q0 r0 M) (j + 1)))))]) hP hD [] [4, 5] rfl rfl (by decide)), (RO.beside (wr := [(ra_2, .inr (0, [.ref mr_2, .long (M_2 0)])), (mr_2, .inl (dA 1, 32, .inr (.inl (fun j => M_2 (j + 1)))))]) hP hD [] [2, 3] rfl rfl (by decide))⟩) rfl rfl hl.1 rfl (lv_room (Nat.le_of_ble_eq_true rfl)) dX33_of_22 ⟨by first | decide | omega | (show _ ≤ (9 : Nat); omega), by first | decide | omega | (show _ ≤ (150 : Nat); omega)⟩) hP hD hS hA [] [0, 1, 2, 3, 4, 5] rfl rfl (by decide) (by decide) (fun E ce q9 u9 t9 H locs ht9 hp9 hb9 hz hP hS h1 h2 h3 => ?_) (fun u9 ra9 H locs hq hX hz hk hP hD hS => ?_)
  · have hD := hD.sub (ws' := [(ra_1, .inr (0, [.ref mr_1, .long ((trnS 0 p0 q0 r0 M) 0)])), (mr_1, .inl (dA 1, 32, .inr (.inl (fun j => (trnS 0 p0 q0 r0 M) (j + 1))))), (ra_2, .inr (0, [.ref mr_2, .long (M_2 0)])), (mr_2, .inl (dA 1, 32, .inr (.inl (fun j => M_2 (j + 1))))), (ra_3, .inr (0, [.ref mr_3, .long ((trnS 0 p0 q0 r0 M) 0)])), (mr_3, .inl (dA 1, 32, .inr (.inl (fun j => (trnS 0 p0 q0 r0 M) (j + 1)))))]) [0, 1, 2, 3, 4, 5] (by decide) rfl
    have hP : va_P (dC, dI) vwCl [(ra_1, .inr (0, [.ref mr_1, .long ((trnS 0 p0 q0 r0 M) 0)])), (mr_1, .inl (dA 1, 32, .inr (.inl (fun j => (trnS 0 p0 q0 r0 M) (j + 1))))), (ra_2, .inr (0, [.ref mr_2, .long (M_2 0)])), (mr_2, .inl (dA 1, 32, .inr (.inl (fun j => M_2 (j + 1))))), (ra_3, .inr (0, [.ref mr_3, .long ((trnS 0 p0 q0 r0 M) 0)])), (mr_3, .inl (dA 1, 32, .inr (.inl (fun j => (trnS 0 p0 q0 r0 M) (j + 1)))))] H := hP
    have hD : va_D A [(ra_1, .inr (0, [.ref mr_1, .long ((trnS 0 p0 q0 r0 M) 0)])), (mr_1, .inl (dA 1, 32, .inr (.inl (fun j => (trnS 0 p0 q0 r0 M) (j + 1))))), (ra_2, .inr (0, [.ref mr_2, .long (M_2 0)])), (mr_2, .inl (dA 1, 32, .inr (.inl (fun j => M_2 (j + 1))))), (ra_3, .inr (0, [.ref mr_3, .long ((trnS 0 p0 q0 r0 M) 0)])), (mr_3, .inl (dA 1, 32, .inr (.inl (fun j => (trnS 0 p0 q0 r0 M) (j + 1)))))] := hD
    subst hb9
    subst hQe
    exact vx_out (fun x h => (hnoH x h).elim) hlocks h1 h2 h3 (fun t10 e10 _ => ⟨(), trivial, Or.inr ⟨rfl, one_9 (inv_x2 e_2 hg14 hp9)⟩, hS.F e10⟩) hS.2.2 (by first | decide | omega) (by first | decide | omega)
  obtain ⟨ra_4, rfl⟩ : ∃ z, z = ra9 := ⟨_, rfl⟩
  obtain ⟨mr_4, M_4⟩ := u9
  have e_4 := hq
  have sm_4 : MSm M_4 := scaS_sm (sm_2.c (j := 0) (by decide)) (isNumB_1 hg14) (trnS_sm hn sM) e_4
  clear hq
  have hP : va_P (dC, dI) vwCl [(ra_1, .inr (0, [.ref mr_1, .long ((trnS 0 p0 q0 r0 M) 0)])), (mr_1, .inl (dA 1, 32, .inr (.inl (fun j => (trnS 0 p0 q0 r0 M) (j + 1))))), (ra_2, .inr (0, [.ref mr_2, .long (M_2 0)])), (mr_2, .inl (dA 1, 32, .inr (.inl (fun j => M_2 (j + 1))))), (ra_3, .inr (0, [.ref mr_3, .long ((trnS 0 p0 q0 r0 M) 0)])), (mr_3, .inl (dA 1, 32, .inr (.inl (fun j => (trnS 0 p0 q0 r0 M) (j + 1))))), (ra_4, .inr (0, [.ref mr_4, .long (M_4 0)])), (mr_4, .inl (dA 1, 32, .inr (.inl (fun j => M_4 (j + 1)))))] H := hP
  have hD : va_D A [(ra_1, .inr (0, [.ref mr_1, .long ((trnS 0 p0 q0 r0 M) 0)])), (mr_1, .inl (dA 1, 32, .inr (.inl (fun j => (trnS 0 p0 q0 r0 M) (j + 1))))), (ra_2, .inr (0, [.ref mr_2, .long (M_2 0)])), (mr_2, .inl (dA 1, 32, .inr (.inl (fun j => M_2 (j + 1))))), (ra_3, .inr (0, [.ref mr_3, .long ((trnS 0 p0 q0 r0 M) 0)])), (mr_3, .inl (dA 1, 32, .inr (.inl (fun j => (trnS 0 p0 q0 r0 M) (j + 1))))), (ra_4, .inr (0, [.ref mr_4, .long (M_4 0)])), (mr_4, .inl (dA 1, 32, .inr (.inl (fun j => M_4 (j + 1)))))] := hD
  subst hQe
  refine vx_ret ?_
  refine W.widen (k := 9) (n := 150) (by first | decide | omega) (by first | decide | omega) ?_
  exact W.aret (v := .ref ra_4) hx hb hr (Or.inl ⟨_, rfl⟩) (Or.inr ⟨_, rfl⟩) (fun tz ht hW => ⟨⟨(mr_4, M_4), ra_4, rfl, (one_9 (inv_s e_2 hg14 e_4)), B1r_at ht (hP.sub [6, 7] rfl) (hD.sub [6, 7] (by decide) rfl) trivial⟩, hS.F ht⟩) hS.2.2 dX33_of_25
