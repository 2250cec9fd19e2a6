/-! blades, factors, maps, the conformal form -/
theorem n_shl1 {k : Nat} (hk : k < 31) : nI 1 <<< (nI k &&& 31) = nI (2 ^ k) := by
  have h := n_shl (a := 1) (k := k) (by omega) (by rw [Nat.one_mul]; exact Nat.lt_trans (Nat.pow_lt_pow_right (by decide) hk) (by decide))
  rw [h, Nat.one_mul]
theorem p5 {k : Nat} (hk : k < 5) : 2 ^ k < 32 := Nat.pow_lt_pow_right (n := 5) (by decide) hk
theorem pow_le' {a b : Nat} (h : a ≤ b) : 2 ^ a ≤ 2 ^ b := Nat.pow_le_pow_right (by decide) h
theorem pow_lt' {a b : Nat} (h : a < b) : 2 ^ a < 2 ^ b := Nat.pow_lt_pow_right (by decide) h
theorem or32 {a b : Nat} (ha : a < 32) (hb : b < 32) : a ||| b < 32 := Nat.or_lt_two_pow (n := 5) ha hb
/-- one basis blade -/
def basM (b : Nat) : MV := fun i => if i = 0 then 1 else if i = b + 1 then 1 else 0
def verN (p q r : Nat) (M S : MV) : Nat → Option Bool
  | 0 => some (isNumB S 32)
  | k + 1 => match verN p q r M S k with
    | none => none
    | some false => some false
    | some true => match sndS p q r M (basM (2 ^ k)) with
      | none => none
      | some T => some (vecB T)
theorem verN_f {p q r : Nat} {M S : MV} {n m : Nat} (h : verN p q r M S n = some false) (hm : n ≤ m) : verN p q r M S m = some false := by
  induction hm with
  | refl => exact h
  | step _ ih => show (match verN p q r M S _ with | none => none | some false => some false | some true => _) = _; rw [ih]
theorem verN_n {p q r : Nat} {M S : MV} {n m : Nat} (h : verN p q r M S n = none) (hm : n ≤ m) : verN p q r M S m = none := by
  induction hm with
  | refl => exact h
  | step _ ih => show (match verN p q r M S _ with | none => none | some false => some false | some true => _) = _; rw [ih]
def verX (p q r : Nat) (Ms : Nat → MV) (a : Int32) : IX := if rgB a = false then (nI 1, nI 0) else if mixB (Ms (rg a)) = true then (nI 0, nI 0) else match sqS p q r (Ms (rg a)) with
  | none => (nI 2, nI 0)
  | some S => match verN p q r (Ms (rg a)) S (p + q + r) with
    | none => (nI 2, nI 0)
    | some b => (nI 0, bI b)
/-- whether what a set leaves lies in the value -/
def sumL (M : MV) (st x : Nat) : Nat → Int64
  | 0 => 0
  | k + 1 => if x &&& 2 ^ k ≠ 0 ∧ st &&& 2 ^ k = 0 then sumL M st x k + (ordS st (2 ^ k)).toInt64 * M ((st ||| 2 ^ k) + 1) * (ordS (2 ^ k) (x ^^^ 2 ^ k)).toInt64 * M ((x ^^^ 2 ^ k) + 1) else sumL M st x k
def lieN (M : MV) (st g n : Nat) : Nat → Bool
  | 0 => true
  | x + 1 => if popc x = g + 1 then lieN M st g n x && decide (sumL M st x n = 0) else lieN M st g n x
theorem lieN_mono {M : MV} {st g n a b : Nat} (h : lieN M st g n a = false) (hm : a ≤ b) : lieN M st g n b = false := by
  induction hm with
  | refl => exact h
  | step _ ih => show (if _ then lieN M st g n _ && _ else lieN M st g n _) = false; rw [ih]; split <;> rfl
def oneN (M : MV) (n g : Nat) : Nat → Bool
  | 0 => true
  | b + 1 => oneN M n g b && (decide (¬ popc b + 1 = g) || lieN M b g n (2 ^ n))
theorem oneN_mono {M : MV} {n g a b : Nat} (h : oneN M n g a = false) (hm : a ≤ b) : oneN M n g b = false := by
  induction hm with
  | refl => exact h
  | step _ ih => show (oneN M n g _ && _) = false; rw [ih]; rfl
def oneB (n : Nat) (M : MV) : Bool := decide (popc (grS M) = 1) && oneN M n (popc (grS M - 1)) (2 ^ n)
def blaX (p q r : Nat) (Ms : Nat → MV) (a : Int32) : IX := if rgB a = false then (nI 1, nI 0) else (nI 0, bI (oneB (p + q + r) (Ms (rg a))))
/-- the blade of the greatest coefficient among the first k -/
def grtN (M : MV) : Nat → Nat
  | 0 => 0
  | k + 1 => if k = 0 then 0 else if absL (M (k + 1)) ≤ absL (M (grtN M k + 1)) then grtN M k else k
theorem grtN_lt (M : MV) : ∀ k, 0 < k → grtN M k < k
  | 0, h => absurd h (by decide)
  | k + 1, _ => by
    show (if k = 0 then 0 else if _ then grtN M k else k) < k + 1
    split
    · omega
    · have := grtN_lt M k (by omega)
      split <;> omega
/-- the lowest bits taken away -/
def drpN (x : Nat) : Nat → Nat
  | 0 => x
  | k + 1 => drpN x k &&& (drpN x k - 1)
theorem drpN_le (x : Nat) : ∀ k, drpN x k ≤ x
  | 0 => Nat.le_refl _
  | k + 1 => Nat.le_trans Nat.and_le_left (drpN_le x k)
theorem drpN_pop {x : Nat} (hx : x < 64) : ∀ k, k ≤ popc x → popc (drpN x k) + k = popc x
  | 0, _ => rfl
  | k + 1, h => by
    have h1 := drpN_pop hx k (by omega)
    have h2 : drpN x k < 64 := Nat.lt_of_le_of_lt (drpN_le x k) hx
    have h3 : 0 < drpN x k := by
      rcases Nat.eq_zero_or_pos (drpN x k) with e | e
      · rw [e] at h1; have : popc 0 = 0 := by decide
        omega
      · exact e
    have h4 := (popc_s _ h2 h3).2
    show popc (drpN x k &&& (drpN x k - 1)) + (k + 1) = popc x
    omega
theorem drpN_pos {x k : Nat} (hx : x < 64) (h : k < popc x) : 0 < drpN x k := by
  have h1 := drpN_pop hx k (by omega)
  rcases Nat.eq_zero_or_pos (drpN x k) with e | e
  · rw [e] at h1; have : popc 0 = 0 := by decide
    omega
  · exact e
def lowB (x : Nat) : Nat := x &&& (64 - x)
theorem low_and : ∀ x, x < 32 → nI x &&& -(nI x) = nI (lowB x) := by decide +kernel
theorem lowB_le (x : Nat) : lowB x ≤ x := Nat.and_le_left
theorem lowB_pow : ∀ x, x < 32 → 0 < x → ∃ k, k < 5 ∧ lowB x = 2 ^ k ∧ x / 2 ^ k &&& 1 = 1 := by decide +kernel
/-- a row of numbers at the places of the vectors -/
def pvS (v : Nat → Int64) : Nat → Nat → Int64
  | 0 => fun _ => 0
  | k + 1 => vp_updL (pvS v k) (2 ^ k) (v k)
theorem pow_inj' {a b : Nat} (h : 2 ^ a = 2 ^ b) : a = b := by
  rcases Nat.lt_trichotomy a b with c | c | c
  · exact absurd h (Nat.ne_of_lt (pow_lt' c))
  · exact c
  · exact absurd h.symm (Nat.ne_of_lt (pow_lt' c))
theorem pv_at (v : Nat → Int64) : ∀ n k, k < n → pvS v n (2 ^ k) = v k
  | 0, k, h => absurd h (Nat.not_lt_zero _)
  | n + 1, k, h => by
    show vp_updL (pvS v n) (2 ^ n) (v n) (2 ^ k) = v k
    unfold vp_updL
    by_cases e : k = n
    · subst e; rw [if_pos rfl]
    · rw [if_neg (fun q => e (pow_inj' q))]; exact pv_at v n k (by omega)
theorem pv_out (v : Nat → Int64) {j : Nat} : ∀ n, (∀ k, k < n → j ≠ 2 ^ k) → pvS v n j = 0
  | 0, _ => rfl
  | n + 1, h => by
    show vp_updL (pvS v n) (2 ^ n) (v n) j = 0
    unfold vp_updL
    rw [if_neg (h n (by omega))]
    exact pv_out v n (fun k hk => h k (by omega))
theorem pv_cases {n j : Nat} : (∃ k, k < n ∧ j = 2 ^ k) ∨ ∀ k, k < n → j ≠ 2 ^ k := by
  rcases Classical.em (∃ k, k < n ∧ j = 2 ^ k) with h | h
  · exact Or.inl h
  · exact Or.inr (fun k hk e => h ⟨k, hk, e⟩)
theorem pv_ext {v w : Nat → Int64} {n : Nat} (h : ∀ k, k < n → v k = w k) : pvS v n = pvS w n := by
  funext j
  rcases pv_cases (n := n) (j := j) with ⟨k, hk, rfl⟩ | c
  · rw [pv_at v n k hk, pv_at w n k hk, h k hk]
  · rw [pv_out v n c, pv_out w n c]
theorem pv_grow {v : Nat → Int64} {n m : Nat} (hm : n ≤ m) (h : ∀ k, n ≤ k → k < m → v k = 0) : pvS v m = pvS v n := by
  funext j
  rcases pv_cases (n := m) (j := j) with ⟨k, hk, rfl⟩ | c
  · rw [pv_at v m k hk]
    by_cases hn : k < n
    · rw [pv_at v n k hn]
    · rw [h k (by omega) hk, pv_out v n (fun i hi e => by have := pow_inj' e; omega)]
  · rw [pv_out v m c, pv_out v n (fun k hk => c k (by omega))]
theorem pv_put {v w : Nat → Int64} {n k : Nat} (hk : k < n) (h : ∀ i, i < n → i ≠ k → v i = w i) : vp_updL (pvS v n) (2 ^ k) (w k) = pvS w n := by
  funext j
  unfold vp_updL
  by_cases e : j = 2 ^ k
  · subst e; rw [if_pos rfl, pv_at w n k hk]
  · rw [if_neg e]
    rcases pv_cases (n := n) (j := j) with ⟨i, hi, rfl⟩ | c
    · rw [pv_at v n i hi, pv_at w n i hi, h i hi (fun q => e (by rw [q]))]
    · rw [pv_out v n c, pv_out w n c]
/-- the vector that a set of vectors leaves of a value -/
def facV (M : MV) (rest k : Nat) : Int64 := if rest / 2 ^ k &&& 1 = 1 then 0 else (ordS rest (2 ^ k)).toInt64 * M ((rest ||| 2 ^ k) + 1)
def facS (n : Nat) (M : MV) (i : Nat) : Option MV :=
  let st := grtN M (2 ^ n)
  let e := lowB (drpN st i)
  let U := pvS (facV M (st ^^^ e)) n e
  fitS (U * sgL U) (pvS (fun k => facV M (st ^^^ e) k * sgL U) n)
def facX (p q r : Nat) (Ms : Nat → MV) (t a i : Int32) : CO := if (rgB t && rgB a) = false then (nI 1, none) else if oneB (p + q + r) (Ms (rg a)) = false then (nI 2, none) else if inB i (nI 0) (nI (popc (grtN (Ms (rg a)) (2 ^ (p + q + r)))) - nI 1) = false then (nI 3, none) else optC (nI 4) (facS (p + q + r) (Ms (rg a)) i.toNatClampNeg)
/-! maps -/
def vecsN (Ms : Nat → MV) (f : Nat) : Nat → Bool
  | 0 => true
  | k + 1 => vecsN Ms f k && vecB (Ms (f + k))
theorem vecsN_mono {Ms : Nat → MV} {f a b : Nat} (h : vecsN Ms f a = false) (hm : a ≤ b) : vecsN Ms f b = false := by
  induction hm with
  | refl => exact h
  | step _ ih => show (vecsN Ms f _ && _) = false; rw [ih]; rfl
def wmX (n : Nat) (Ms : Nat → MV) (b : Bool) (f : Int32) : Int32 := if b = false then nI 1 else if inB f (nI 0) (nI (8 - n)) = false then nI 1 else if vecsN Ms f.toNatClampNeg n = true then nI 0 else nI 2
def frcM (u v : Int64) : MV := fun i => if i = 0 then u else if i = 1 then v else 0
def mtS (p q r : Nat) (M : MV) (b : Nat) (Ms : Nat → MV) (f : Nat) : Nat → Option MV
  | 0 => scaS 1 1 (frcM (M 0) (M (b + 1)))
  | k + 1 => match mtS p q r M b Ms f k with
    | none => none
    | some P => if b / 2 ^ k &&& 1 = 1 then mulS 3 p q r P (Ms (f + k)) else some P
theorem mtS_none {p q r : Nat} {M : MV} {b : Nat} {Ms : Nat → MV} {f n m : Nat} (h : mtS p q r M b Ms f n = none) (hm : n ≤ m) : mtS p q r M b Ms f m = none := by
  induction hm with
  | refl => exact h
  | step _ ih => show (match mtS p q r M b Ms f _ with | none => none | some P => _) = none; rw [ih]
def mpS (p q r : Nat) (M : MV) (Ms : Nat → MV) (f : Nat) : Nat → Option MV
  | 0 => some (numM 0)
  | k + 1 => match mpS p q r M Ms f k with
    | none => none
    | some S => if M (k + 1) = 0 then some S else match mtS p q r M k Ms f (p + q + r) with
      | none => none
      | some T => addS (nI 1) S T
theorem mpS_none {p q r : Nat} {M : MV} {Ms : Nat → MV} {f n m : Nat} (h : mpS p q r M Ms f n = none) (hm : n ≤ m) : mpS p q r M Ms f m = none := by
  induction hm with
  | refl => exact h
  | step _ ih => show (match mpS p q r M Ms f _ with | none => none | some S => _) = none; rw [ih]
def mapX (p q r : Nat) (Ms : Nat → MV) (t a f : Int32) : CO := if wmX (p + q + r) Ms (rgB t && rgB a) f ≠ nI 0 then (wmX (p + q + r) Ms (rgB t && rgB a) f, none) else optC (nI 3) (mpS p q r (Ms (rg a)) Ms f.toNatClampNeg (2 ^ (p + q + r)))
def detR (D : MV) (b : Nat) : Nat → Int64 := fun j => if j = 0 then D (b + 1) else 0
def detX (p q r : Nat) (Ms : Nat → MV) (t f : Int32) : CO := if wmX (p + q + r) Ms (rgB t) f ≠ nI 0 then (wmX (p + q + r) Ms (rgB t) f, none) else match mpS p q r (basM (2 ^ (p + q + r) - 1)) Ms f.toNatClampNeg (2 ^ (p + q + r)) with
  | none => (nI 3, none)
  | some D => (nI 0, some (redS (D 0) (detR D (2 ^ (p + q + r) - 1))))
theorem frcM_sm {u v : Int64} (h : 0 < u.toInt ∧ u.toInt ≤ 100000000) (hv : sm8 v) : MSm (frcM u v) := by
  refine ⟨h.1, h.2, fun j hj => ?_⟩
  show _ ≤ (if j + 1 = 0 then u else if j + 1 = 1 then v else 0).toInt ∧ (if j + 1 = 0 then u else if j + 1 = 1 then v else 0).toInt ≤ _
  rw [if_neg (by omega)]
  split
  · exact hv
  · decide
theorem basM_sm (b : Nat) : MSm (basM b) := by
  refine ⟨by show 0 < (1 : Int64).toInt; decide, by show (1 : Int64).toInt ≤ _; decide, fun j hj => ?_⟩
  show _ ≤ (if j + 1 = 0 then (1 : Int64) else if j + 1 = b + 1 then 1 else 0).toInt ∧ (if j + 1 = 0 then (1 : Int64) else if j + 1 = b + 1 then 1 else 0).toInt ≤ _
  rw [if_neg (by omega)]
  split <;> decide
theorem mtS_sm {p q r : Nat} {M : MV} (hM : MSm M) {b : Nat} (hb : b < 32) {Ms : Nat → MV} (hs : ∀ k, k < 8 → MSm (Ms k)) {f : Nat} : ∀ n, f + n ≤ 8 → ∀ P, mtS p q r M b Ms f n = some P → MSm P
  | 0, _, P, e => scaS_sm (by unfold sm8; decide) (by decide) (frcM_sm ⟨hM.1, hM.2.1⟩ (hM.c hb)) e
  | k + 1, h, P, e => by
    have e : (match mtS p q r M b Ms f k with | none => none | some P => if b / 2 ^ k &&& 1 = 1 then mulS 3 p q r P (Ms (f + k)) else some P) = some P := e
    split at e
    · cases e
    · rename_i A eA
      have hA := mtS_sm hM hb hs k (by omega) A eA
      split at e
      · exact mulS_sm hA (hs _ (by omega)) e
      · cases e; exact hA
theorem mpS_sm {p q r : Nat} {M : MV} (hM : MSm M) {Ms : Nat → MV} (hs : ∀ k, k < 8 → MSm (Ms k)) {f : Nat} (hf : f + (p + q + r) ≤ 8) : ∀ n, n ≤ 32 → ∀ P, mpS p q r M Ms f n = some P → MSm P
  | 0, _, P, e => by cases e; exact numM_sm (by unfold sm8; decide)
  | k + 1, h, P, e => by
    have e : (match mpS p q r M Ms f k with | none => none | some S => if M (k + 1) = 0 then some S else match mtS p q r M k Ms f (p + q + r) with | none => none | some T => addS (nI 1) S T) = some P := e
    split at e
    · cases e
    · rename_i A eA
      have hA := mpS_sm hM hs hf k (by omega) A eA
      split at e
      · cases e; exact hA
      · split at e
        · cases e
        · rename_i T eT
          exact addS_sm hA (mtS_sm hM (by omega) hs _ hf T eT) e
theorem detR_bd {D : MV} (h : MSm D) {b : Nat} (hb : b < 32) (j : Nat) : sm8 (detR D b j) := by
  unfold detR; split
  · exact h.c hb
  · unfold sm8; decide
theorem detS_sm {D : MV} (h : MSm D) {b : Nat} (hb : b < 32) : MSm (redS (D 0) (detR D b)) := red_small h.1 (fit_small h.1 h.2.1 (fun j _ => detR_bd h hb j))
/-! conformal form -/
def cfB (p q r : Nat) : Bool := decide (q = 1) && decide (r = 0) && decide (2 ≤ p) && decide (p ≤ 4)
def coB (v : Int32) : Bool := inB v (-1000) (nI 1000)
def coV (k : Nat) (x y z : Int32) : Int32 := if k = 0 then x else if k = 1 then y else z
def czN (x y z : Int32) (k0 : Nat) : Nat → Bool
  | 0 => true
  | i + 1 => czN x y z k0 i && decide (coV (k0 + i) x y z = 0)
def pk0 (p q r : Nat) : Nat := if cfB p q r = true then p - 1 else 3
def ptB (p q r : Nat) (x y z d : Int32) : Bool := (coB x && coB y && coB z && inB d (nI 1) (nI 100)) && czN x y z (pk0 p q r) (3 - pk0 p q r)
/-- the sum of the squares of the first k coordinates -/
def ptQ (x y z : Int32) : Nat → Int64
  | 0 => 0
  | k + 1 => ptQ x y z k + (coV k x y z).toInt64 * (coV k x y z).toInt64
def ptV (x y z d : Int32) (k : Nat) : Int64 := 2 * (coV k x y z).toInt64 * d.toInt64
def ptR (p : Nat) (x y z d : Int32) : Nat → Int64 := vp_updL (vp_updL (pvS (ptV x y z d) (p - 1)) (2 ^ (p - 1)) (ptQ x y z (p - 1) - d.toInt64 * d.toInt64)) (2 ^ p) (ptQ x y z (p - 1) + d.toInt64 * d.toInt64)
def ptX (p q r : Nat) (t x y z d : Int32) : CO := if rgB t = false then (nI 1, none) else if ptB p q r x y z d = false then (nI 2, none) else if cfB p q r = false then (nI 3, none) else optC (nI 4) (fitS (d.toInt64 * d.toInt64) (ptR p x y z d))
def twW (p : Nat) (M : MV) : Int64 := M (2 ^ p + 1) - M (2 ^ (p - 1) + 1)
def wsB (p q r : Nat) (M : MV) : Bool := cfB p q r && vecB M && decide (¬ twW p M = 0)
def wsX (p q r : Nat) (Ms : Nat → MV) (t a : Int32) : Int32 := if (rgB t && rgB a) = false then nI 1 else if wsB p q r (Ms (rg a)) = true then nI 0 else nI 2
def ceV (p : Nat) (M : MV) (k : Nat) : Int64 := sgL (twW p M) * M (2 ^ k + 1)
def ceX (p q r : Nat) (Ms : Nat → MV) (t a : Int32) : CO := if wsX p q r Ms t a ≠ nI 0 then (wsX p q r Ms t a, none) else optC (nI 3) (fitS (sgL (twW p (Ms (rg a))) * twW p (Ms (rg a))) (pvS (ceV p (Ms (rg a))) (p - 1)))
/-- the sum of the squares, with their signs -/
def raQ (p q r : Nat) (M : MV) : Nat → Int64
  | 0 => 0
  | k + 1 => raQ p q r M k + (sgS p q r (2 ^ k) (2 ^ k)).toInt64 * M (2 ^ k + 1) * M (2 ^ k + 1)
def raR (p q r : Nat) (M : MV) (k : Nat) : Nat → Int64 := fun j => if j = 0 then raQ p q r M k else 0
def raX (p q r : Nat) (Ms : Nat → MV) (t a : Int32) : CO := if wsX p q r Ms t a ≠ nI 0 then (wsX p q r Ms t a, none) else match mulS 6 p q r (Ms (rg a)) (Ms (rg a)) with
  | none => (nI 3, none)
  | some _ => optC (nI 3) (fitS (twW p (Ms (rg a)) * twW p (Ms (rg a))) (raR p q r (Ms (rg a)) (p + q + r)))
theorem cf_p {p q r : Nat} (h : cfB p q r = true) : q = 1 ∧ r = 0 ∧ 2 ≤ p ∧ p ≤ 4 := by
  unfold cfB at h
  simp only [Bool.and_eq_true, decide_eq_true_iff] at h
  omega
theorem twW_bd {p : Nat} (hp : p ≤ 4) {M : MV} (hM : MSm M) : -200000000 ≤ (twW p M).toInt ∧ (twW p M).toInt ≤ 200000000 := by
  have a := hM.2.2 _ (p5 (k := p) (by omega))
  have b := hM.2.2 _ (p5 (k := p - 1) (by omega))
  unfold twW
  rw [Int64.toInt_sub, bm64 (by omega)]
  omega
theorem sgL_tw {v : Int64} (h : -200000000 ≤ v.toInt ∧ v.toInt ≤ 200000000) (h0 : v ≠ 0) : 0 < (sgL v * v).toInt := by
  have h1 := mul_b (x := sgL v) (y := v) (A := 1) (B := 200000000) (sgL_b v) h (by decide)
  have h2 := sgL_pos h0
  rw [h1.1, Int.mul_comm]; exact h2
theorem tw_sq {v : Int64} (h : -200000000 ≤ v.toInt ∧ v.toInt ≤ 200000000) (h0 : v ≠ 0) : 0 < (v * v).toInt := by
  have h1 := mul_b (x := v) (y := v) (A := 200000000) (B := 200000000) h h (by decide)
  have h2 : v.toInt ≠ 0 := fun e => h0 (Int64.toInt_inj.mp e)
  rw [h1.1]
  rcases Int.lt_or_gt_of_ne h2 with c | c
  · exact Int.mul_pos_of_neg_of_neg c c
  · exact Int.mul_pos c c
theorem pv_nm {v : Nat → Int64} {n : Nat} (h : ∀ k, k < n → v k ≠ Int64.minValue) (j : Nat) : pvS v n j ≠ Int64.minValue := by
  rcases pv_cases (n := n) (j := j) with ⟨k, hk, rfl⟩ | c
  · rw [pv_at v n k hk]; exact h k hk
  · rw [pv_out v n c]; decide
theorem ceV_nm {p : Nat} {M : MV} (hM : MSm M) {k : Nat} (hk : k < 5) : ceV p M k ≠ Int64.minValue := ne_min_of (mul_b (A := 1) (B := 100000000) (sgL_b _) (hM.2.2 _ (p5 hk)) (by decide)).2 (by decide)
theorem raQ_bd {p q r : Nat} {M : MV} (hM : MSm M) : ∀ k : Nat, k ≤ 5 → -((k : Int) * 10000000000000000) ≤ (raQ p q r M k).toInt ∧ (raQ p q r M k).toInt ≤ (k : Int) * 10000000000000000
  | 0, _ => by show _ ≤ (0 : Int64).toInt ∧ (0 : Int64).toInt ≤ _; simp
  | k + 1, h => by
    have h1 := raQ_bd (p := p) (q := q) (r := r) hM k (by omega)
    have hk := p5 (k := k) (by omega)
    have h2 := mul_b (A := 1) (B := 100000000) (sgS_sg p q r (2 ^ k) (2 ^ k)).b (hM.2.2 _ hk) (by decide)
    have h3 := mul_b (A := 1 * 100000000) (B := 100000000) h2.2 (hM.2.2 _ hk) (by decide)
    have h4 := add_b h1 h3.2 (by omega)
    show _ ≤ (raQ p q r M k + (sgS p q r (2 ^ k) (2 ^ k)).toInt64 * M (2 ^ k + 1) * M (2 ^ k + 1)).toInt ∧ (raQ p q r M k + (sgS p q r (2 ^ k) (2 ^ k)).toInt64 * M (2 ^ k + 1) * M (2 ^ k + 1)).toInt ≤ _
    omega
theorem raR_nm {p q r : Nat} {M : MV} (hM : MSm M) {k : Nat} (hk : k ≤ 5) (j : Nat) : raR p q r M k j ≠ Int64.minValue := by
  unfold raR; split
  · have h := raQ_bd (p := p) (q := q) (r := r) hM k hk
    exact ne_min_of (B := 50000000000000000) (by omega) (by decide)
  · decide
theorem raR_s {p q r : Nat} {M : MV} {k : Nat} : vp_updL (raR p q r M k) 0 (raR p q r M k 0 + (sgS p q r (2 ^ k) (2 ^ k)).toInt64 * M (2 ^ k + 1) * M (2 ^ k + 1)) = raR p q r M (k + 1) := by
  funext j
  unfold vp_updL raR
  by_cases h : j = 0
  · subst h; rw [if_pos rfl, if_pos rfl]; rfl
  · rw [if_neg h, if_neg h, if_neg h]
