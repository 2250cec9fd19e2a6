/-! the descent: what the component reads, as functions; and it answers as the machine -/
abbrev Dn : Type := Nat ⊕ MV
abbrev DR : Type := (Nat × Nat) ⊕ (Dn × Nat)
def dBin (p q r a k : Nat) : Dn → Dn → Dn
  | Sum.inl x, _ => Sum.inl x
  | Sum.inr _, Sum.inl x => Sum.inl x
  | Sum.inr M, Sum.inr N => match cmbS (opnS a) p q r M N with
    | some P => Sum.inr P
    | none => Sum.inl k
def dMap (f : MV → MV) : Dn → Dn
  | Sum.inl x => Sum.inl x
  | Sum.inr M => Sum.inr (f M)
def isQ (c : Nat) : Bool := decide (c = 126) || decide (c = 33)
def isL (L c : Nat) : Bool := decide (lvl c = L) && decide (c ≠ 110)
/-- the operators behind a value: fuel, what stands, where -/
def pstU (T : Nat → Nat) (ln p q r : Nat) : Nat → Dn → Nat → Dn × Nat
  | 0, d, b => (d, b)
  | f + 1, d, b => if isQ (ch T ln b) = true then pstU T ln p q r f (dMap (trnS (if ch T ln b = 126 then 0 else 3) p q r) d) (sk T ln (b + 1)) else (d, b)
def itmX (T : Nat → Nat) (ln p q r : Nat) (pr : Nat → DR) (b : Nat) : DR := match pr b with
  | Sum.inl e => Sum.inl e
  | Sum.inr (d, b2) => Sum.inr (pstU T ln p q r (ln - b2) d b2)
def chnU (T : Nat → Nat) (ln p q r L : Nat) (sub : Nat → DR) : Nat → Dn → Nat → DR
  | 0, d, b => Sum.inr (d, b)
  | f + 1, d, b => if isL L (ch T ln b) = true then (match sub (sk T ln (b + 1)) with
      | Sum.inl e => Sum.inl e
      | Sum.inr (d2, b2) => chnU T ln p q r L sub f (dBin p q r (ch T ln b) b d d2) b2) else Sum.inr (d, b)
def chnX (T : Nat → Nat) (ln p q r L : Nat) (sub : Nat → DR) (b : Nat) : DR := match sub b with
  | Sum.inl e => Sum.inl e
  | Sum.inr (d, b2) => chnU T ln p q r L sub (ln - b2) d b2
def valX (T : Nat → Nat) (ln p q r : Nat) (Ms : Nat → MV) (b : Nat) : DR :=
  if isD (ch T ln b) = true then (if numE T ln 0 b = 0 then (if ch T ln (sk T ln (dE T ln b)) = 47 then (if numE T ln 1 (sk T ln (sk T ln (dE T ln b) + 1)) = 0 then Sum.inr (Sum.inr (divM (numV T ln (sk T ln (sk T ln (dE T ln b) + 1))) (numM (lN (numV T ln b)))), sk T ln (dE T ln (sk T ln (sk T ln (dE T ln b) + 1)))) else Sum.inl (numE T ln 1 (sk T ln (sk T ln (dE T ln b) + 1)), sk T ln (sk T ln (dE T ln b) + 1))) else Sum.inr (Sum.inr (numM (lN (numV T ln b))), sk T ln (dE T ln b))) else Sum.inl (numE T ln 0 b, b))
  else if ch T ln b = 101 ∨ ch T ln b = 114 then (if namE T ln (p + q + r) b = 0 then Sum.inr (Sum.inr (namM T ln p q r Ms b), sk T ln (dE T ln (b + 1))) else Sum.inl (namE T ln (p + q + r) b, b))
  else Sum.inl (1, b)
def negX (T : Nat → Nat) (ln p q r : Nat) (tr : Nat → DR) (b : Nat) : DR := if ch T ln b = 45 then (match tr (sk T ln (b + 1)) with
  | Sum.inl e => Sum.inl e
  | Sum.inr (d, b2) => Sum.inr (dMap (trnS 8 p q r) d, b2)) else tr b
def xpnX (T : Nat → Nat) (ln p q r : Nat) (tr : Nat → DR) (b : Nat) : DR := match negX T ln p q r tr b with
  | Sum.inl e => Sum.inl e
  | Sum.inr (d, b2) => chnU T ln p q r 1 tr (ln - b2) d b2
def trmX (T : Nat → Nat) (ln p q r : Nat) (pr : Nat → DR) : Nat → DR := chnX T ln p q r 2 (chnX T ln p q r 3 (itmX T ln p q r pr))
def prmX (T : Nat → Nat) (ln p q r : Nat) (Ms : Nat → MV) : Nat → Nat → DR
  | 0, b => if ch T ln b = 40 then Sum.inl (4, b) else valX T ln p q r Ms b
  | f + 1, b => if ch T ln b = 40 then (match xpnX T ln p q r (trmX T ln p q r (prmX T ln p q r Ms f)) (sk T ln (b + 1)) with
      | Sum.inl e => Sum.inl e
      | Sum.inr (d, b2) => if ch T ln b2 = 41 then Sum.inr (d, sk T ln (b2 + 1)) else Sum.inl (1, b2)) else valX T ln p q r Ms b
def endX (T : Nat → Nat) (ln : Nat) : DR → (Nat × Nat) ⊕ MV
  | Sum.inl e => Sum.inl e
  | Sum.inr (d, b) => if ch T ln b = 256 then (match d with
    | Sum.inl k => Sum.inl (3, k)
    | Sum.inr M => Sum.inr M) else Sum.inl (1, b)
def evX (T : Nat → Nat) (ln p q r : Nat) (Ms : Nat → MV) : (Nat × Nat) ⊕ MV := endX T ln (xpnX T ln p q r (trmX T ln p q r (prmX T ln p q r Ms 12)) (sk T ln 0))
/-- d lies on S -/
def psh (d : Dn) (x y : List MV × Option Nat) : Prop := ∃ M, y.1 = M :: x.1 ∧ match x.2 with
  | some k => y.2 = some k
  | none => match d with
    | Sum.inl k => y.2 = some k
    | Sum.inr N => y.2 = none ∧ M = N
theorem psh_bin {p q r a k : Nat} {d d2 : Dn} {x y z : List MV × Option Nat} (ha : a ≠ 110) (h1 : psh d x y) (h2 : psh d2 y z) : psh (dBin p q r a k d d2) x (carP p q r a k z) := by
  obtain ⟨S, u⟩ := x
  obtain ⟨S1, u1⟩ := y
  obtain ⟨S2, u2⟩ := z
  obtain ⟨M, e1, h1⟩ := h1
  obtain ⟨N, e2, h2⟩ := h2
  dsimp only at e1 e2 h1 h2
  subst e1 e2
  unfold carP
  rw [if_neg ha]
  refine ⟨_, rfl, ?_⟩
  cases u with
  | some j => dsimp only at h1 ⊢; subst h1; dsimp only at h2; subst h2; rfl
  | none =>
    dsimp only at h1 ⊢
    cases d with
    | inl j => dsimp only at h1; subst h1; dsimp only at h2; subst h2; rfl
    | inr P =>
      dsimp only at h1
      obtain ⟨h1, rfl⟩ := h1
      subst h1
      dsimp only at h2
      cases d2 with
      | inl j => dsimp only at h2; subst h2; rfl
      | inr Q =>
        dsimp only at h2
        obtain ⟨h2, rfl⟩ := h2
        subst h2
        unfold dBin carB
        dsimp only
        cases cmbS (opnS a) p q r M N with
        | some P => exact ⟨rfl, rfl⟩
        | none => rfl
theorem psh_neg {p q r k : Nat} {d : Dn} {x y : List MV × Option Nat} (h1 : psh d x y) : psh (dMap (trnS 8 p q r) d) x (carP p q r 110 k y) := by
  obtain ⟨S, u⟩ := x
  obtain ⟨S1, u1⟩ := y
  obtain ⟨M, e1, h1⟩ := h1
  dsimp only at e1 h1
  subst e1
  unfold carP
  rw [if_pos rfl]
  refine ⟨_, rfl, ?_⟩
  cases u with
  | some j => exact h1
  | none =>
    cases d with
    | inl j => exact h1
    | inr P => obtain ⟨h1, rfl⟩ := h1; exact ⟨h1, rfl⟩
theorem psh_top {f : MV → MV} {d : Dn} {S S1 : List MV} {u u1 : Option Nat} (h1 : psh d (S, u) (S1, u1)) : psh (dMap f d) (S, u) (topS f S1, u1) := by
  obtain ⟨M, e1, h1⟩ := h1
  dsimp only at e1 h1
  subst e1
  refine ⟨_, rfl, ?_⟩
  cases u with
  | some j => exact h1
  | none =>
    cases d with
    | inl j => exact h1
    | inr P => obtain ⟨h1, rfl⟩ := h1; exact ⟨h1, rfl⟩
theorem psh_new (M : MV) (S : List MV) (u : Option Nat) : psh (Sum.inr M) (S, u) (M :: S, u) := by
  refine ⟨M, rfl, ?_⟩
  cases u with
  | some j => rfl
  | none => exact ⟨rfl, rfl⟩
theorem setP_stop {p q r L : Nat} {ops : List (Nat × Nat)} {x : List MV × Option Nat} (h : topL ops < L) : setP p q r L ops x = (ops, x) := by
  cases ops with
  | nil => rfl
  | cons c w =>
    obtain ⟨a, k⟩ := c
    unfold setP
    rw [if_neg]
    intro g
    have h' : (if a = 40 then 0 else lvl a) < L := h
    rw [if_neg g.1] at h'
    omega
theorem setP_two {p q r L M : Nat} (h : L ≤ M) : ∀ {ops : List (Nat × Nat)} {x : List MV × Option Nat}, setP p q r L ops x = setP p q r L (setP p q r M ops x).1 (setP p q r M ops x).2 := by
  intro ops
  induction ops with
  | nil => intro x; rfl
  | cons c w ih =>
    obtain ⟨a, k⟩ := c
    intro x
    by_cases e : a ≠ 40 ∧ M ≤ lvl a
    · have e1 : setP p q r M ((a, k) :: w) x = setP p q r M w (carP p q r a k x) := if_pos e
      have e2 : setP p q r L ((a, k) :: w) x = setP p q r L w (carP p q r a k x) := if_pos ⟨e.1, by omega⟩
      rw [e1, e2]
      exact ih
    · have e1 : setP p q r M ((a, k) :: w) x = ((a, k) :: w, x) := if_neg e
      rw [e1]
theorem setP_opn {p q r L : Nat} : ∀ {ops : List (Nat × Nat)} {x : List MV × Option Nat}, opens (setP p q r L ops x).1 = opens ops := by
  intro ops
  induction ops with
  | nil => intro x; rfl
  | cons c w ih =>
    obtain ⟨a, k⟩ := c
    intro x
    by_cases e : a ≠ 40 ∧ L ≤ lvl a
    · have e2 : setP p q r L ((a, k) :: w) x = setP p q r L w (carP p q r a k x) := if_pos e
      rw [e2, ih, opens_c, if_neg e.1]
      omega
    · have e1 : setP p q r L ((a, k) :: w) x = ((a, k) :: w, x) := if_neg e
      rw [e1]
section EV
variable {T : Nat → Nat} {ln p q r : Nat} {Ms : Nat → MV}
/-- what the walk over the machine gives, from a place that wants an operand: an error, or a place behind one -/
def Gd1 (T : Nat → Nat) (ln p q r : Nat) (Ms : Nat → MV) (L : Nat) (ops : List (Nat × Nat)) (x : List MV × Option Nat) (i : Nat) (R : (Nat × Nat) ⊕ PS) : DR → Prop
  | Sum.inl e => R = Sum.inl e
  | Sum.inr (d, b2) => ∃ F i2 pl ops2 x2 x3, i < i2 ∧ i2 ≤ ln ∧ ln + 1 ≤ F + i2 ∧ sk T ln i2 = b2 ∧ R = runP T ln p q r Ms F (.go (i2, false, false, pl, ops2, x2)) ∧ setP p q r L ops2 x2 = (ops, x3) ∧ psh d x x3 ∧ (pl = true → ch T ln b2 ≠ 47) ∧ isQ (ch T ln b2) = false ∧ (lvl (ch T ln b2) < L ∨ ch T ln b2 = 110)
/-- a reader's answer is the machine's -/
def GdS (T : Nat → Nat) (ln p q r : Nat) (Ms : Nat → MV) (L f : Nat) (sub : Nat → DR) : Prop :=
  ∀ (i : Nat) (bg pl : Bool) (ops : List (Nat × Nat)) (x : List MV × Option Nat) (F : Nat), i ≤ ln → ln + 1 ≤ F + i → topL ops < L → opens ops + f = 12 → (bg = true → ch T ln (sk T ln i) ≠ 45) → Gd1 T ln p q r Ms L ops x i (runP T ln p q r Ms F (.go (i, true, bg, pl, ops, x))) (sub (sk T ln i))
theorem Gd1.from {L : Nat} {ops : List (Nat × Nat)} {x : List MV × Option Nat} {i j : Nat} {R : (Nat × Nat) ⊕ PS} {y : DR} (h : Gd1 T ln p q r Ms L ops x j R y) (hij : i ≤ j) : Gd1 T ln p q r Ms L ops x i R y := by
  cases y with
  | inl e => exact h
  | inr z =>
    obtain ⟨d, b⟩ := z
    obtain ⟨F, i2, pl, ops2, x2, x3, h1, h2⟩ := h
    exact ⟨F, i2, pl, ops2, x2, x3, by omega, h2⟩
theorem run_e {f : Nat} {e : Nat × Nat} : runP T ln p q r Ms f (Sum.inl e) = Sum.inl e := by cases f <;> rfl
theorem run_f {f : Nat} {x : PS} : runP T ln p q r Ms f (.fin x) = Sum.inr x := by cases f <;> rfl
theorem run_s {f : Nat} {x : PS} (h : 1 ≤ f) : runP T ln p q r Ms f (.go x) = runP T ln p q r Ms (f - 1) (stP T ln p q r Ms x) := by
  obtain ⟨k, rfl⟩ : ∃ k, f = k + 1 := ⟨f - 1, by omega⟩
  rfl
theorem sk_S (i : Nat) : isS (ch T ln (sk T ln i)) = false := runE_no (by decide)
theorem sk_sk (i : Nat) : sk T ln (sk T ln i) = sk T ln i := runE_f (sk_S i)
theorem sk_ge (i : Nat) : i ≤ sk T ln i := runE_ge
theorem sk_le {i : Nat} (h : i ≤ ln) : sk T ln i ≤ ln := runE_le h
theorem ch_in {i k : Nat} (hk : k ≠ 256) (h : ch T ln i = k) : i < ln := lt_of_ch hk h
theorem ch_no {i : Nat} (h : ln ≤ i) : ch T ln i = 256 := ch_ge (by omega)
/-- behind one operand alone -/
def Gd0 (T : Nat → Nat) (ln p q r : Nat) (Ms : Nat → MV) (ops : List (Nat × Nat)) (x : List MV × Option Nat) (i : Nat) (R : (Nat × Nat) ⊕ PS) : DR → Prop
  | Sum.inl e => R = Sum.inl e
  | Sum.inr (d, b2) => ∃ F i2 pl x2, i < i2 ∧ i2 ≤ ln ∧ ln + 1 ≤ F + i2 ∧ sk T ln i2 = b2 ∧ R = runP T ln p q r Ms F (.go (i2, false, false, pl, ops, x2)) ∧ psh d x x2 ∧ (pl = true → ch T ln b2 ≠ 47)
theorem Gd0.from {ops : List (Nat × Nat)} {x : List MV × Option Nat} {i j : Nat} {R : (Nat × Nat) ⊕ PS} {y : DR} (h : Gd0 T ln p q r Ms ops x j R y) (hij : i ≤ j) : Gd0 T ln p q r Ms ops x i R y := by
  cases y with
  | inl e => exact h
  | inr z =>
    obtain ⟨d, b⟩ := z
    obtain ⟨F, i2, pl, x2, h1, h2⟩ := h
    exact ⟨F, i2, pl, x2, by omega, h2⟩
theorem stO_d {x : PS} (h : isD (ch T ln (sk T ln x.at_)) = true) : stO T ln p q r Ms x = (if numE T ln 0 (sk T ln x.at_) = 0 then .go ⟨dE T ln (sk T ln x.at_), false, false, true, x.ops, numM (lN (numV T ln (sk T ln x.at_))) :: x.S, x.unf⟩ else .er (numE T ln 0 (sk T ln x.at_)) (sk T ln x.at_)) := by
  unfold stO
  rw [if_neg, if_pos h]
  intro g
  rw [g.1] at h
  exact absurd h (by decide)
theorem stO_n {x : PS} (h : ch T ln (sk T ln x.at_) = 101 ∨ ch T ln (sk T ln x.at_) = 114) : stO T ln p q r Ms x = (if namE T ln (p + q + r) (sk T ln x.at_) = 0 then .go ⟨dE T ln (sk T ln x.at_ + 1), false, false, false, x.ops, namM T ln p q r Ms (sk T ln x.at_) :: x.S, x.unf⟩ else .er (namE T ln (p + q + r) (sk T ln x.at_)) (sk T ln x.at_)) := by
  unfold stO
  rw [if_neg (by rintro ⟨g, -⟩; rw [g] at h; exact absurd h (by decide)), if_neg (by rcases h with h | h <;> rw [h] <;> decide), if_pos h]
theorem stO_p {x : PS} (h : ch T ln (sk T ln x.at_) = 40) : stO T ln p q r Ms x = (if opens x.ops = 12 then .er 4 (sk T ln x.at_) else .go ⟨sk T ln x.at_ + 1, true, true, x.plain, (40, sk T ln x.at_) :: x.ops, x.S, x.unf⟩) := by
  unfold stO
  rw [if_neg (by rintro ⟨g, -⟩; rw [g] at h; exact absurd h (by decide)), if_neg (by rw [h]; decide), if_neg (by rw [h]; decide), if_pos h]
theorem stO_e {x : PS} (h1 : x.begins = true → ch T ln (sk T ln x.at_) ≠ 45) (h2 : isD (ch T ln (sk T ln x.at_)) = false) (h3 : ¬ (ch T ln (sk T ln x.at_) = 101 ∨ ch T ln (sk T ln x.at_) = 114)) (h4 : ch T ln (sk T ln x.at_) ≠ 40) : stO T ln p q r Ms x = .er 1 (sk T ln x.at_) := by
  unfold stO
  rw [if_neg (fun g => h1 g.2 g.1), if_neg (by rw [h2]; decide), if_neg h3, if_neg h4]
theorem val_ok {i : Nat} {bg pl : Bool} {ops : List (Nat × Nat)} {x : List MV × Option Nat} {F : Nat} (hi : i ≤ ln) (hF : ln + 1 ≤ F + i) (hb : bg = true → ch T ln (sk T ln i) ≠ 45) (h4 : ch T ln (sk T ln i) ≠ 40) : Gd0 T ln p q r Ms ops x i (runP T ln p q r Ms F (.go (i, true, bg, pl, ops, x))) (valX T ln p q r Ms (sk T ln i)) := by
  rw [run_s (by omega), show stP T ln p q r Ms (i, true, bg, pl, ops, x) = stO T ln p q r Ms (i, true, bg, pl, ops, x) from if_pos rfl]
  have hg := sk_ge (T := T) (ln := ln) i
  have hl := sk_le (T := T) hi
  unfold valX
  by_cases c1 : isD (ch T ln (sk T ln i)) = true
  · rw [if_pos c1, stO_d c1]
    show Gd0 T ln p q r Ms ops x i (runP T ln p q r Ms (F - 1) (if numE T ln 0 (sk T ln i) = 0 then _ else _)) _
    by_cases c2 : numE T ln 0 (sk T ln i) = 0
    · rw [if_pos c2, if_pos c2]
      have d1 : sk T ln i < dE T ln (sk T ln i) := dE_gt c1
      have d2 : dE T ln (sk T ln i) ≤ ln := runE_le hl
      have g1 := sk_ge (T := T) (ln := ln) (dE T ln (sk T ln i))
      have l1 := sk_le (T := T) d2
      by_cases c3 : ch T ln (sk T ln (dE T ln (sk T ln i))) = 47
      · rw [if_pos c3]
        have k1 := ch_in (by decide) c3
        have g2 := sk_ge (T := T) (ln := ln) (sk T ln (dE T ln (sk T ln i)) + 1)
        have l2 := sk_le (T := T) (ln := ln) (i := sk T ln (dE T ln (sk T ln i)) + 1) (by omega)
        have e : stP T ln p q r Ms (dE T ln (sk T ln i), false, false, true, ops, numM (lN (numV T ln (sk T ln i))) :: x.1, x.2) = (if numE T ln 1 (sk T ln (sk T ln (dE T ln (sk T ln i)) + 1)) = 0 then .go (dE T ln (sk T ln (sk T ln (dE T ln (sk T ln i)) + 1)), false, false, false, ops, divM (numV T ln (sk T ln (sk T ln (dE T ln (sk T ln i)) + 1))) (numM (lN (numV T ln (sk T ln i)))) :: x.1, x.2) else .er (numE T ln 1 (sk T ln (sk T ln (dE T ln (sk T ln i)) + 1))) (sk T ln (sk T ln (dE T ln (sk T ln i)) + 1))) := by
          show stB T ln p q r (dE T ln (sk T ln i), false, false, true, ops, numM (lN (numV T ln (sk T ln i))) :: x.1, x.2) = _
          unfold stB
          rw [if_neg (fun g => absurd (c3.symm.trans g.1) (by decide)), if_pos ⟨c3, rfl⟩]
          rfl
        show Gd0 T ln p q r Ms ops x i (runP T ln p q r Ms (F - 1) (.go (dE T ln (sk T ln i), false, false, true, ops, numM (lN (numV T ln (sk T ln i))) :: x.1, x.2))) _
        rw [run_s (by omega), e]
        by_cases c4 : numE T ln 1 (sk T ln (sk T ln (dE T ln (sk T ln i)) + 1)) = 0
        · rw [if_pos c4, if_pos c4]
          have d3 := dE_gt (numE_d c4)
          have d4 : dE T ln (sk T ln (sk T ln (dE T ln (sk T ln i)) + 1)) ≤ ln := runE_le l2
          exact ⟨F - 1 - 1, _, _, _, by omega, d4, by omega, rfl, rfl, psh_new _ _ _, fun z => nomatch z⟩
        · rw [if_neg c4, if_neg c4]
          exact run_e
      · rw [if_neg c3]
        exact ⟨F - 1, _, _, _, by omega, d2, by omega, rfl, rfl, psh_new _ _ _, fun _ => c3⟩
    · rw [if_neg c2, if_neg c2]
      exact run_e
  · rw [if_neg c1]
    by_cases c2 : ch T ln (sk T ln i) = 101 ∨ ch T ln (sk T ln i) = 114
    · rw [if_pos c2, stO_n c2]
      show Gd0 T ln p q r Ms ops x i (runP T ln p q r Ms (F - 1) (if namE T ln (p + q + r) (sk T ln i) = 0 then _ else _)) _
      have k1 : sk T ln i < ln := by
        rcases c2 with c2 | c2
        · exact ch_in (by decide) c2
        · exact ch_in (by decide) c2
      by_cases c3 : namE T ln (p + q + r) (sk T ln i) = 0
      · rw [if_pos c3, if_pos c3]
        have d1 : sk T ln i + 1 ≤ dE T ln (sk T ln i + 1) := runE_ge
        have d2 : dE T ln (sk T ln i + 1) ≤ ln := runE_le k1
        exact ⟨F - 1, _, _, _, by omega, d2, by omega, rfl, rfl, psh_new _ _ _, fun z => nomatch z⟩
      · rw [if_neg c3, if_neg c3]
        exact run_e
    · rw [if_neg c2, stO_e hb (Bool.eq_false_iff.mpr c1) c2 h4]
      exact run_e
theorem stB_q {x : PS} (h : isQ (ch T ln (sk T ln x.at_)) = true) : stB T ln p q r x = .go ⟨sk T ln x.at_ + 1, false, x.begins, false, x.ops, topS (trnS (if ch T ln (sk T ln x.at_) = 126 then 0 else 3) p q r) x.S, x.unf⟩ := by
  have h' : ch T ln (sk T ln x.at_) = 126 ∨ ch T ln (sk T ln x.at_) = 33 := by
    unfold isQ at h
    simpa using h
  unfold stB
  rw [if_neg (by rintro ⟨g, -⟩; rw [g] at h'; exact absurd h' (by decide)), if_neg (by rintro ⟨g, -⟩; rw [g] at h'; exact absurd h' (by decide)), if_pos h']
theorem isQ_no {c : Nat} (h : isQ c = false) : ¬ (c = 126 ∨ c = 33) := by
  intro g
  unfold isQ at h
  rcases g with rfl | rfl <;> exact absurd h (by decide)
theorem stB_l {x : PS} (h1 : x.plain = true → ch T ln (sk T ln x.at_) ≠ 47) (h2 : isQ (ch T ln (sk T ln x.at_)) = false) (h3 : 0 < lvl (ch T ln (sk T ln x.at_))) (h4 : ch T ln (sk T ln x.at_) ≠ 110) : stB T ln p q r x = .go ⟨sk T ln x.at_ + 1, true, x.begins, x.plain, (ch T ln (sk T ln x.at_), sk T ln x.at_) :: (setP p q r (lvl (ch T ln (sk T ln x.at_))) x.ops (x.S, x.unf)).1, (setP p q r (lvl (ch T ln (sk T ln x.at_))) x.ops (x.S, x.unf)).2.1, (setP p q r (lvl (ch T ln (sk T ln x.at_))) x.ops (x.S, x.unf)).2.2⟩ := by
  unfold stB
  rw [if_neg (by rintro ⟨g, -⟩; rw [g] at h3; exact absurd h3 (by decide)), if_neg (fun g => h1 g.2 g.1), if_neg (isQ_no h2), if_neg (by rintro ⟨g, -⟩; rw [g] at h3; exact absurd h3 (by decide)), if_pos ⟨h3, h4⟩]
theorem stB_c {x : PS} (h3 : ch T ln (sk T ln x.at_) = 41) (h4 : 0 < opens x.ops) : stB T ln p q r x = .go ⟨sk T ln x.at_ + 1, false, x.begins, false, (setP p q r 1 x.ops (x.S, x.unf)).1.tail, (setP p q r 1 x.ops (x.S, x.unf)).2.1, (setP p q r 1 x.ops (x.S, x.unf)).2.2⟩ := by
  unfold stB
  rw [if_neg (by rintro ⟨g, -⟩; rw [g] at h3; exact absurd h3 (by decide)), if_neg (by rintro ⟨g, -⟩; rw [g] at h3; exact absurd h3 (by decide)), if_neg (by rw [h3]; decide), if_pos ⟨h3, h4⟩]
theorem stB_e {x : PS} (h0 : ch T ln (sk T ln x.at_) = 256 → 0 < opens x.ops) (h1 : x.plain = true → ch T ln (sk T ln x.at_) ≠ 47) (h2 : isQ (ch T ln (sk T ln x.at_)) = false) (h3 : ch T ln (sk T ln x.at_) = 41 → opens x.ops = 0) (h4 : lvl (ch T ln (sk T ln x.at_)) < 1 ∨ ch T ln (sk T ln x.at_) = 110) : stB T ln p q r x = .er 1 (sk T ln x.at_) := by
  unfold stB
  rw [if_neg (fun g => by have := h0 g.1; omega), if_neg (fun g => h1 g.2 g.1), if_neg (isQ_no h2), if_neg (fun g => by have := h3 g.1; omega), if_neg (by rintro ⟨g1, g2⟩; rcases h4 with h4 | h4; omega; exact g2 h4)]
theorem run_B {F : Nat} {i : Nat} {bg pl : Bool} {ops : List (Nat × Nat)} {x : List MV × Option Nat} (h : 1 ≤ F) : runP T ln p q r Ms F (.go (i, false, bg, pl, ops, x)) = runP T ln p q r Ms (F - 1) (stB T ln p q r (i, false, bg, pl, ops, x)) := run_s h
theorem run_O {F : Nat} {i : Nat} {bg pl : Bool} {ops : List (Nat × Nat)} {x : List MV × Option Nat} (h : 1 ≤ F) : runP T ln p q r Ms F (.go (i, true, bg, pl, ops, x)) = runP T ln p q r Ms (F - 1) (stO T ln p q r Ms (i, true, bg, pl, ops, x)) := run_s h
theorem pst_ok {ops : List (Nat × Nat)} {x : List MV × Option Nat} {i : Nat} {R : (Nat × Nat) ⊕ PS} : ∀ (f F i2 : Nat) (pl : Bool) (x2 : List MV × Option Nat) (d : Dn), ln ≤ f + sk T ln i2 → i < i2 → i2 ≤ ln → ln + 1 ≤ F + i2 → R = runP T ln p q r Ms F (.go (i2, false, false, pl, ops, x2)) → psh d x x2 → (pl = true → ch T ln (sk T ln i2) ≠ 47) → Gd1 T ln p q r Ms 4 ops x i R (Sum.inr (pstU T ln p q r f d (sk T ln i2))) := by
  intro f
  induction f with
  | zero =>
    intro F i2 pl x2 d hf h1 h2 h3 h4 h5 h6
    have e := ch_no (T := T) (ln := ln) (i := sk T ln i2) (by omega)
    exact ⟨F, i2, pl, ops, x2, x2, h1, h2, h3, rfl, h4, setP_stop (by have := topL3 ops; omega), h5, h6, by rw [e]; rfl, Or.inl (by rw [e]; decide)⟩
  | succ f ih =>
    intro F i2 pl x2 d hf h1 h2 h3 h4 h5 h6
    unfold pstU
    cases c : isQ (ch T ln (sk T ln i2)) with
    | true =>
      rw [if_pos rfl]
      have k1 : sk T ln i2 < ln := by
        apply Decidable.byContradiction
        intro g
        rw [ch_no (by omega)] at c
        exact absurd c (by decide)
      have g1 := sk_ge (T := T) (ln := ln) i2
      have g2 := sk_ge (T := T) (ln := ln) (sk T ln i2 + 1)
      refine ih (F - 1) (sk T ln i2 + 1) false (topS (trnS (if ch T ln (sk T ln i2) = 126 then 0 else 3) p q r) x2.1, x2.2) _ (by omega) (by omega) (by omega) (by omega) ?_ (psh_top h5) (fun z => nomatch z)
      rw [h4, run_B (by omega), stB_q c]
    | false =>
      rw [if_neg (by decide)]
      exact ⟨F, i2, pl, ops, x2, x2, h1, h2, h3, rfl, h4, setP_stop (by have := topL3 ops; omega), h5, h6, c, Or.inl (by have := lvl3 (ch T ln (sk T ln i2)); omega)⟩
/-- of one operand -/
def Gd0S (T : Nat → Nat) (ln p q r : Nat) (Ms : Nat → MV) (f : Nat) (sub : Nat → DR) : Prop :=
  ∀ (i : Nat) (bg pl : Bool) (ops : List (Nat × Nat)) (x : List MV × Option Nat) (F : Nat), i ≤ ln → ln + 1 ≤ F + i → opens ops + f = 12 → (bg = true → ch T ln (sk T ln i) ≠ 45) → Gd0 T ln p q r Ms ops x i (runP T ln p q r Ms F (.go (i, true, bg, pl, ops, x))) (sub (sk T ln i))
theorem itm_ok {f : Nat} {pr : Nat → DR} (h : Gd0S T ln p q r Ms f pr) : GdS T ln p q r Ms 4 f (itmX T ln p q r pr) := by
  intro i bg pl ops x F hi hF _ ho hb
  have g := h i bg pl ops x F hi hF ho hb
  unfold itmX
  cases e : pr (sk T ln i) with
  | inl y => rw [e] at g; exact g
  | inr z =>
    obtain ⟨d, b⟩ := z
    rw [e] at g
    obtain ⟨F2, i2, pl2, x2, h1, h2, h3, rfl, h5, h6, h7⟩ := g
    exact pst_ok _ F2 i2 pl2 x2 d (by omega) h1 h2 h3 h5 h6 h7
theorem chn_ok {L f : Nat} {sub : Nat → DR} (hL : 1 ≤ L) (hs : GdS T ln p q r Ms (L + 1) f sub) {ops : List (Nat × Nat)} {x : List MV × Option Nat} {i : Nat} {R : (Nat × Nat) ⊕ PS} (ht : topL ops < L) (ho : opens ops + f = 12) : ∀ (g F i2 : Nat) (pl : Bool) (ops2 : List (Nat × Nat)) (x2 x3 : List MV × Option Nat) (d : Dn), ln ≤ g + sk T ln i2 → i < i2 → i2 ≤ ln → ln + 1 ≤ F + i2 → R = runP T ln p q r Ms F (.go (i2, false, false, pl, ops2, x2)) → setP p q r L ops2 x2 = (ops, x3) → psh d x x3 → (pl = true → ch T ln (sk T ln i2) ≠ 47) → isQ (ch T ln (sk T ln i2)) = false → (lvl (ch T ln (sk T ln i2)) < L + 1 ∨ ch T ln (sk T ln i2) = 110) → Gd1 T ln p q r Ms L ops x i R (chnU T ln p q r L sub g d (sk T ln i2)) := by
  intro g
  induction g with
  | zero =>
    intro F i2 pl ops2 x2 x3 d hf h1 h2 h3 h4 h5 h6 h7 h8 h9
    have e := ch_no (T := T) (ln := ln) (i := sk T ln i2) (by omega)
    exact ⟨F, i2, pl, ops2, x2, x3, h1, h2, h3, rfl, h4, h5, h6, h7, h8, Or.inl (by rw [e]; exact hL)⟩
  | succ g ih =>
    intro F i2 pl ops2 x2 x3 d hf h1 h2 h3 h4 h5 h6 h7 h8 h9
    unfold chnU
    cases c : isL L (ch T ln (sk T ln i2)) with
    | false =>
      rw [if_neg (by decide)]
      refine ⟨F, i2, pl, ops2, x2, x3, h1, h2, h3, rfl, h4, h5, h6, h7, h8, ?_⟩
      rcases h9 with h9 | h9
      · by_cases z : ch T ln (sk T ln i2) = 110
        · exact Or.inr z
        · refine Or.inl ?_
          apply Decidable.byContradiction
          intro w
          have : isL L (ch T ln (sk T ln i2)) = true := by
            unfold isL
            rw [decide_eq_true (show lvl (ch T ln (sk T ln i2)) = L by omega), decide_eq_true z]
            rfl
          rw [c] at this
          exact absurd this (by decide)
      · exact Or.inr h9
    | true =>
      rw [if_pos rfl]
      have c' : lvl (ch T ln (sk T ln i2)) = L ∧ ch T ln (sk T ln i2) ≠ 110 := by
        unfold isL at c
        simpa using c
      obtain ⟨c1, c2⟩ := c'
      have k1 : sk T ln i2 < ln := by
        apply Decidable.byContradiction
        intro w
        rw [ch_no (by omega)] at c1
        have : lvl 256 = 0 := by decide
        omega
      have k40 : ch T ln (sk T ln i2) ≠ 40 := by
        intro w
        rw [w] at c1
        have : lvl 40 = 0 := by decide
        omega
      have g1 := sk_ge (T := T) (ln := ln) i2
      have e1 : R = runP T ln p q r Ms (F - 1) (.go (sk T ln i2 + 1, true, false, pl, (ch T ln (sk T ln i2), sk T ln i2) :: ops, x3)) := by
        rw [h4, run_B (by omega), stB_l h7 h8 (by show 0 < lvl (ch T ln (sk T ln i2)); omega) c2]
        show runP T ln p q r Ms (F - 1) (.go (sk T ln i2 + 1, true, false, pl, (ch T ln (sk T ln i2), sk T ln i2) :: (setP p q r (lvl (ch T ln (sk T ln i2))) ops2 x2).1, (setP p q r (lvl (ch T ln (sk T ln i2))) ops2 x2).2)) = _
        rw [c1, h5]
      have tl : topL ((ch T ln (sk T ln i2), sk T ln i2) :: ops) = L := by
        show (if ch T ln (sk T ln i2) = 40 then 0 else lvl (ch T ln (sk T ln i2))) = L
        rw [if_neg k40, c1]
      have g := hs (sk T ln i2 + 1) false pl ((ch T ln (sk T ln i2), sk T ln i2) :: ops) x3 (F - 1) (by omega) (by omega) (by omega) (by rw [opens_c, if_neg k40]; omega) (fun z => nomatch z)
      rw [← e1] at g
      cases e2 : sub (sk T ln (sk T ln i2 + 1)) with
      | inl y => rw [e2] at g; exact g
      | inr z =>
        obtain ⟨d2, b2⟩ := z
        rw [e2] at g
        obtain ⟨F3, i3, pl3, ops4, x4, x5, j1, j2, j3, rfl, j5, j6, j7, j8, j9, j10⟩ := g
        have g3 := sk_ge (T := T) (ln := ln) i3
        refine ih F3 i3 pl3 ops4 x4 (carP p q r (ch T ln (sk T ln i2)) (sk T ln i2) x5) _ (by omega) (by omega) j2 j3 j5 ?_ (psh_bin c2 h6 j7) j8 j9 j10
        rw [setP_two (M := L + 1) (by omega), j6]
        have e3 : setP p q r L ((ch T ln (sk T ln i2), sk T ln i2) :: ops) x5 = setP p q r L ops (carP p q r (ch T ln (sk T ln i2)) (sk T ln i2) x5) := if_pos ⟨k40, by omega⟩
        rw [e3]
        exact setP_stop ht
theorem chnX_ok {L f : Nat} {sub : Nat → DR} (hL : 1 ≤ L) (hs : GdS T ln p q r Ms (L + 1) f sub) : GdS T ln p q r Ms L f (chnX T ln p q r L sub) := by
  intro i bg pl ops x F hi hF ht ho hb
  have g := hs i bg pl ops x F hi hF (by omega) ho hb
  unfold chnX
  cases e : sub (sk T ln i) with
  | inl y => rw [e] at g; exact g
  | inr z =>
    obtain ⟨d, b⟩ := z
    rw [e] at g
    obtain ⟨F2, i2, pl2, ops2, x2, x3, h1, h2, h3, rfl, h5, h6, h7, h8, h9, h10⟩ := g
    refine chn_ok hL hs ht ho _ F2 i2 pl2 ops2 x2 x3 d (by omega) h1 h2 h3 h5 ?_ h7 h8 h9 h10
    rw [setP_two (M := L + 1) (by omega), h6]
    exact setP_stop ht
theorem trm_ok {f : Nat} {pr : Nat → DR} (h : Gd0S T ln p q r Ms f pr) : GdS T ln p q r Ms 2 f (trmX T ln p q r pr) := chnX_ok (by decide) (chnX_ok (by decide) (itm_ok h))
theorem xpn_ok {f : Nat} {tr : Nat → DR} (hs : GdS T ln p q r Ms 2 f tr) {i : Nat} {pl : Bool} {ops : List (Nat × Nat)} {x : List MV × Option Nat} {F : Nat} (hi : i ≤ ln) (hF : ln + 1 ≤ F + i) (ht : topL ops < 1) (ho : opens ops + f = 12) : Gd1 T ln p q r Ms 1 ops x i (runP T ln p q r Ms F (.go (i, true, true, pl, ops, x))) (xpnX T ln p q r tr (sk T ln i)) := by
  unfold xpnX negX
  have g1 := sk_ge (T := T) (ln := ln) i
  by_cases c : ch T ln (sk T ln i) = 45
  · rw [if_pos c]
    have k1 := ch_in (by decide) c
    have e1 : runP T ln p q r Ms F (.go (i, true, true, pl, ops, x)) = runP T ln p q r Ms (F - 1) (.go (sk T ln i + 1, true, false, pl, (110, sk T ln i) :: ops, x)) := by
      rw [run_O (by omega)]
      congr 1
      unfold stO
      rw [if_pos ⟨c, rfl⟩]
    rw [e1]
    have g := hs (sk T ln i + 1) false pl ((110, sk T ln i) :: ops) x (F - 1) (by omega) (by omega) (show (1 : Nat) < 2 by decide) (by rw [opens_c, if_neg (by decide)]; omega) (fun z => nomatch z)
    cases e : tr (sk T ln (sk T ln i + 1)) with
    | inl y => rw [e] at g; exact g
    | inr z =>
      obtain ⟨d, b⟩ := z
      rw [e] at g
      obtain ⟨F2, i2, pl2, ops2, x2, x3, h1, h2, h3, rfl, h5, h6, h7, h8, h9, h10⟩ := g
      refine chn_ok (by decide) hs ht ho _ F2 i2 pl2 ops2 x2 (carP p q r 110 (sk T ln i) x3) _ (by omega) (by omega) h2 h3 h5 ?_ (psh_neg h7) h8 h9 h10
      rw [setP_two (M := 1 + 1) (by omega), h6]
      have e3 : setP p q r 1 ((110, sk T ln i) :: ops) x3 = setP p q r 1 ops (carP p q r 110 (sk T ln i) x3) := if_pos ⟨by decide, by decide⟩
      rw [e3]
      exact setP_stop ht
  · rw [if_neg c]
    have g := hs i true pl ops x F hi hF (by omega) ho (fun _ => c)
    cases e : tr (sk T ln i) with
    | inl y => rw [e] at g; exact g
    | inr z =>
      obtain ⟨d, b⟩ := z
      rw [e] at g
      obtain ⟨F2, i2, pl2, ops2, x2, x3, h1, h2, h3, rfl, h5, h6, h7, h8, h9, h10⟩ := g
      refine chn_ok (by decide) hs ht ho _ F2 i2 pl2 ops2 x2 x3 d (by omega) h1 h2 h3 h5 ?_ h7 h8 h9 h10
      rw [setP_two (M := 1 + 1) (by omega), h6]
      exact setP_stop ht
theorem prm_ok : ∀ f, Gd0S T ln p q r Ms f (prmX T ln p q r Ms f) := by
  intro f
  induction f with
  | zero =>
    intro i bg pl ops x F hi hF ho hb
    unfold prmX
    by_cases c : ch T ln (sk T ln i) = 40
    · rw [if_pos c, run_O (by omega), stO_p c, if_pos (show opens ops = 12 from ho)]
      exact run_e
    · rw [if_neg c]
      exact val_ok hi hF hb c
  | succ f ih =>
    intro i bg pl ops x F hi hF ho hb
    unfold prmX
    by_cases c : ch T ln (sk T ln i) = 40
    · rw [if_pos c, run_O (by omega), stO_p c, if_neg (show ¬ opens ops = 12 by omega)]
      have g1 := sk_ge (T := T) (ln := ln) i
      have k1 := ch_in (by decide) c
      have g := xpn_ok (trm_ok ih) (i := sk T ln i + 1) (pl := pl) (ops := (40, sk T ln i) :: ops) (x := x) (F := F - 1) (by omega) (by omega) (show (0 : Nat) < 1 by decide) (by rw [opens_c, if_pos rfl]; omega)
      cases e : xpnX T ln p q r (trmX T ln p q r (prmX T ln p q r Ms f)) (sk T ln (sk T ln i + 1)) with
      | inl y => rw [e] at g; exact g
      | inr z =>
        obtain ⟨d, b⟩ := z
        rw [e] at g
        obtain ⟨F2, i2, pl2, ops2, x2, x3, h1, h2, h3, rfl, h5, h6, h7, h8, h9, h10⟩ := g
        have g2 := sk_ge (T := T) (ln := ln) i2
        have hp : 0 < opens ops2 := by
          have := setP_opn (p := p) (q := q) (r := r) (L := 1) (ops := ops2) (x := x2)
          rw [h6, opens_c, if_pos rfl] at this
          omega
        show Gd0 T ln p q r Ms ops x i _ (if ch T ln (sk T ln i2) = 41 then Sum.inr (d, sk T ln (sk T ln i2 + 1)) else Sum.inl (1, sk T ln i2))
        by_cases c2 : ch T ln (sk T ln i2) = 41
        · rw [if_pos c2]
          have k2 := ch_in (by decide) c2
          refine ⟨F2 - 1, sk T ln i2 + 1, false, x3, by omega, by omega, by omega, rfl, ?_, h7, fun z => nomatch z⟩
          refine Eq.trans h5 ?_
          rw [run_B (by omega), stB_c c2 hp]
          show runP T ln p q r Ms (F2 - 1) (.go (sk T ln i2 + 1, false, false, false, (setP p q r 1 ops2 x2).1.tail, (setP p q r 1 ops2 x2).2)) = _
          rw [h6]
          rfl
        · rw [if_neg c2]
          refine Eq.trans h5 ?_
          rw [run_B (by omega), stB_e (fun _ => hp) h8 h9 (fun z => absurd z c2) h10]
          exact run_e
    · rw [if_neg c]
      exact val_ok hi hF hb c
/-- the machine's answer is the descent's -/
theorem evP_X {bp : Bool} : evP T ln p q r Ms bp = evX T ln p q r Ms := by
  have g := xpn_ok (trm_ok (prm_ok (T := T) (ln := ln) (p := p) (q := q) (r := r) (Ms := Ms) 12)) (i := 0) (pl := bp) (ops := []) (x := ([], none)) (F := ln + 1) (Nat.zero_le _) (by omega) (by decide) rfl
  unfold evP evX
  cases e : xpnX T ln p q r (trmX T ln p q r (prmX T ln p q r Ms 12)) (sk T ln 0) with
  | inl y =>
    rw [e] at g
    have g' : runP T ln p q r Ms (ln + 1) (.go (0, true, true, bp, [], [], none)) = Sum.inl y := g
    rw [g']
    rfl
  | inr z =>
    obtain ⟨d, b⟩ := z
    rw [e] at g
    obtain ⟨F2, i2, pl2, ops2, x2, x3, h1, h2, h3, rfl, h5, h6, h7, h8, h9, h10⟩ := g
    have h5' : runP T ln p q r Ms (ln + 1) (.go (0, true, true, bp, [], [], none)) = runP T ln p q r Ms F2 (.go (i2, false, false, pl2, ops2, x2)) := h5
    have hp : opens ops2 = 0 := by
      have := setP_opn (p := p) (q := q) (r := r) (L := 1) (ops := ops2) (x := x2)
      rw [h6] at this
      exact this.symm
    rw [h5', run_B (by omega)]
    unfold endX
    dsimp only
    by_cases c : ch T ln (sk T ln i2) = 256
    · rw [if_pos c]
      have e1 : stB T ln p q r (i2, false, false, pl2, ops2, x2) = .fin (sk T ln i2, false, false, pl2, (setP p q r 1 ops2 x2).1, (setP p q r 1 ops2 x2).2) := by
        unfold stB
        rw [if_pos ⟨c, hp⟩]
      rw [e1, run_f, h6]
      obtain ⟨M, e2, h7⟩ := h7
      obtain ⟨S3, u3⟩ := x3
      dsimp only at e2 h7
      subst e2
      cases d with
      | inl k => dsimp only at h7; subst h7; rfl
      | inr N => obtain ⟨h7, rfl⟩ := h7; subst h7; rfl
    · rw [if_neg c, stB_e (fun z => absurd z c) h8 h9 (fun _ => hp) h10, run_e]
      rfl
end EV
