/-! the parser's steps -/
abbrev PS : Type := Nat × Bool × Bool × Bool × (List (Nat × Nat)) × (List MV) × (Option Nat)
abbrev PS.at_ (x : PS) : Nat := x.1
abbrev PS.wants (x : PS) : Bool := x.2.1
abbrev PS.begins (x : PS) : Bool := x.2.2.1
abbrev PS.plain (x : PS) : Bool := x.2.2.2.1
abbrev PS.ops (x : PS) : List (Nat × Nat) := x.2.2.2.2.1
abbrev PS.S (x : PS) : List MV := x.2.2.2.2.2.1
abbrev PS.unf (x : PS) : Option Nat := x.2.2.2.2.2.2
/-- a step's answer: an error with its place, or the next state and whether the text goes on -/
abbrev PR : Type := (Nat × Nat) ⊕ (PS × Bool)
abbrev PR.er (c k : Nat) : PR := Sum.inl (c, k)
abbrev PR.go (x : PS) : PR := Sum.inr (x, true)
abbrev PR.fin (x : PS) : PR := Sum.inr (x, false)
def stO (T : Nat → Nat) (ln p q r : Nat) (Ms : Nat → MV) (x : PS) : PR :=
  if ch T ln (sk T ln x.at_) = 45 ∧ x.begins = true then .go ⟨sk T ln x.at_ + 1, true, false, x.plain, (110, sk T ln x.at_) :: x.ops, x.S, x.unf⟩
  else if isD (ch T ln (sk T ln x.at_)) = true then (if numE T ln 0 (sk T ln x.at_) = 0 then .go ⟨dE T ln (sk T ln x.at_), false, false, true, x.ops, numM (lN (numV T ln (sk T ln x.at_))) :: x.S, x.unf⟩ else .er (numE T ln 0 (sk T ln x.at_)) (sk T ln x.at_))
  else if ch T ln (sk T ln x.at_) = 101 ∨ ch T ln (sk T ln x.at_) = 114 then (if namE T ln (p + q + r) (sk T ln x.at_) = 0 then .go ⟨dE T ln (sk T ln x.at_ + 1), false, false, false, x.ops, namM T ln p q r Ms (sk T ln x.at_) :: x.S, x.unf⟩ else .er (namE T ln (p + q + r) (sk T ln x.at_)) (sk T ln x.at_))
  else if ch T ln (sk T ln x.at_) = 40 then (if opens x.ops = 12 then .er 4 (sk T ln x.at_) else .go ⟨sk T ln x.at_ + 1, true, true, x.plain, (40, sk T ln x.at_) :: x.ops, x.S, x.unf⟩)
  else .er 1 (sk T ln x.at_)
def topS (f : MV → MV) : List MV → List MV
  | [] => []
  | M :: R => f M :: R
def stB (T : Nat → Nat) (ln p q r : Nat) (x : PS) : PR :=
  if ch T ln (sk T ln x.at_) = 256 ∧ opens x.ops = 0 then .fin ⟨sk T ln x.at_, false, x.begins, x.plain, (setP p q r 1 x.ops (x.S, x.unf)).1, (setP p q r 1 x.ops (x.S, x.unf)).2.1, (setP p q r 1 x.ops (x.S, x.unf)).2.2⟩
  else if ch T ln (sk T ln x.at_) = 47 ∧ x.plain = true then (if numE T ln 1 (sk T ln (sk T ln x.at_ + 1)) = 0 then .go ⟨dE T ln (sk T ln (sk T ln x.at_ + 1)), false, x.begins, false, x.ops, topS (divM (numV T ln (sk T ln (sk T ln x.at_ + 1)))) x.S, x.unf⟩ else .er (numE T ln 1 (sk T ln (sk T ln x.at_ + 1))) (sk T ln (sk T ln x.at_ + 1)))
  else if ch T ln (sk T ln x.at_) = 126 ∨ ch T ln (sk T ln x.at_) = 33 then .go ⟨sk T ln x.at_ + 1, false, x.begins, false, x.ops, topS (trnS (if ch T ln (sk T ln x.at_) = 126 then 0 else 3) p q r) x.S, x.unf⟩
  else if ch T ln (sk T ln x.at_) = 41 ∧ 0 < opens x.ops then .go ⟨sk T ln x.at_ + 1, false, x.begins, false, (setP p q r 1 x.ops (x.S, x.unf)).1.tail, (setP p q r 1 x.ops (x.S, x.unf)).2.1, (setP p q r 1 x.ops (x.S, x.unf)).2.2⟩
  else if 0 < lvl (ch T ln (sk T ln x.at_)) ∧ ch T ln (sk T ln x.at_) ≠ 110 then .go ⟨sk T ln x.at_ + 1, true, x.begins, x.plain, (ch T ln (sk T ln x.at_), sk T ln x.at_) :: (setP p q r (lvl (ch T ln (sk T ln x.at_))) x.ops (x.S, x.unf)).1, (setP p q r (lvl (ch T ln (sk T ln x.at_))) x.ops (x.S, x.unf)).2.1, (setP p q r (lvl (ch T ln (sk T ln x.at_))) x.ops (x.S, x.unf)).2.2⟩
  else .er 1 (sk T ln x.at_)
/-- what stays true from step to step -/
def PI (ln : Nat) (x : PS) : Prop := x.at_ ≤ ln ∧ WfO x.ops ∧ opens x.ops ≤ 12 ∧ x.S.length = bins x.ops + (if x.wants = true then 0 else 1) ∧ (x.begins = true → x.wants = true ∧ topL x.ops = 0) ∧ (∀ k, x.unf = some k → k < 1000) ∧ (∀ c ∈ x.ops, c.1 < 256 ∧ c.2 < 1000) ∧ ∀ M ∈ x.S, MSm M
theorem carP_len {p q r a k : Nat} {S : List MV} {u : Option Nat} {n : Nat} (h : S.length = n + (if a = 40 ∨ a = 110 then 0 else 1) + 1) (ha : a ≠ 40) : (carP p q r a k (S, u)).1.length = n + 1 := by
  unfold carP
  by_cases e : a = 110
  · rw [if_pos e]
    rw [if_pos (Or.inr e)] at h
    match S, h with
    | M :: R, h => exact h
  · rw [if_neg e]
    rw [if_neg (by omega)] at h
    match S, h with
    | [M], h => exact absurd h (by simp)
    | N :: M :: R, h =>
      have h : R.length + 1 + 1 = n + 1 + 1 := h
      show R.length + 1 = n + 1
      omega
theorem carP_u {p q r a k : Nat} {S : List MV} {u : Option Nat} (hk : k < 1000) (hu : ∀ j, u = some j → j < 1000) : ∀ j, (carP p q r a k (S, u)).2 = some j → j < 1000 := by
  unfold carP
  split
  · split
    · exact hu
    · exact hu
  · split
    · exact carB_u hk hu
    · exact hu
theorem carP_sm {p q r a k : Nat} (hn : p + q + r ≤ 5) {S : List MV} {u : Option Nat} (h : ∀ M ∈ S, MSm M) : ∀ M ∈ (carP p q r a k (S, u)).1, MSm M := by
  unfold carP
  split
  · split
    · exact h
    · rename_i M R e
      have e : S = M :: R := e
      subst e
      intro X hX
      rcases List.mem_cons.mp hX with rfl | hX
      · exact trnS_sm (op := 8) hn (h M (List.mem_cons_self ..))
      · exact h X (List.mem_cons_of_mem _ hX)
  · split
    · rename_i N M R e
      have e : S = N :: M :: R := e
      subst e
      intro X hX
      rcases List.mem_cons.mp hX with rfl | hX
      · exact carB_sm hn (h M (List.mem_cons_of_mem _ (List.mem_cons_self ..))) (h N (List.mem_cons_self ..))
      · exact h X (List.mem_cons_of_mem _ (List.mem_cons_of_mem _ hX))
    · exact h
theorem setP_inv {p q r L : Nat} (hn : p + q + r ≤ 5) (hL : 1 ≤ L) : ∀ (w : List (Nat × Nat)) (S : List MV) (u : Option Nat), WfO w → S.length = bins w + 1 → (∀ k, u = some k → k < 1000) → (∀ c ∈ w, c.1 < 256 ∧ c.2 < 1000) → (∀ M ∈ S, MSm M) →
    WfO (setP p q r L w (S, u)).1 ∧ (setP p q r L w (S, u)).2.1.length = bins (setP p q r L w (S, u)).1 + 1 ∧ (∀ k, (setP p q r L w (S, u)).2.2 = some k → k < 1000) ∧ (∀ c ∈ (setP p q r L w (S, u)).1, c.1 < 256 ∧ c.2 < 1000) ∧ (∀ M ∈ (setP p q r L w (S, u)).2.1, MSm M) ∧ opens (setP p q r L w (S, u)).1 = opens w ∧ topL (setP p q r L w (S, u)).1 < L ∧ (setP p q r L w (S, u)).1.length ≤ w.length
  | [], S, u, hw, hl, hu, hc, hS => ⟨hw, hl, hu, hc, hS, rfl, hL, Nat.le_refl _⟩
  | (a, k) :: w, S, u, hw, hl, hu, hc, hS => by
    unfold setP
    by_cases e : a ≠ 40 ∧ L ≤ lvl a
    · rw [if_pos e]
      have h0 := hc (a, k) (List.mem_cons_self ..)
      have h1 := carP_len (p := p) (q := q) (r := r) (k := k) (u := u) hl e.1
      have h2 := carP_u (p := p) (q := q) (r := r) (a := a) (S := S) h0.2 hu
      have h3 := carP_sm (a := a) (k := k) (u := u) hn hS
      rcases hx : carP p q r a k (S, u) with ⟨S1, u1⟩
      rw [hx] at h1 h2 h3
      obtain ⟨g1, g2, g3, g4, g5, g6, g7, g8⟩ := setP_inv hn hL w S1 u1 hw.2 h1 h2 (fun c hh => hc c (List.mem_cons_of_mem _ hh)) h3
      refine ⟨g1, g2, g3, g4, g5, ?_, g7, Nat.le_succ_of_le g8⟩
      rw [g6, opens_c, if_neg e.1]; rfl
    · rw [if_neg e]
      refine ⟨hw, hl, hu, hc, hS, rfl, ?_, Nat.le_refl _⟩
      show (if a = 40 then 0 else lvl a) < L
      by_cases e2 : a = 40
      · rw [if_pos e2]; omega
      · rw [if_neg e2]
        have : ¬ L ≤ lvl a := fun h => e ⟨e2, h⟩
        omega
theorem opens_0 : ∀ {w : List (Nat × Nat)}, 0 < opens w → w ≠ []
  | [], h => absurd h (by decide)
  | _ :: _, _ => fun h => by cases h
/-- the model's world while it parses -/
abbrev PU : Type := (Nat → Int64) × (Nat → Int64) × Int64 × (Nat → Int32) × (Nat → Int32) × Nat × Int32 × Int32 × Nat × Nat × Nat × Bool × Bool × Bool × Int32
abbrev PU.fA (x : PU) : Nat → Int64 := x.1
abbrev PU.fM (x : PU) : Nat → Int64 := x.2.1
abbrev PU.mu (x : PU) : Int64 := x.2.2.1
abbrev PU.fW (x : PU) : Nat → Int32 := x.2.2.2.1
abbrev PU.fP (x : PU) : Nat → Int32 := x.2.2.2.2.1
abbrev PU.at_ (x : PU) : Nat := x.2.2.2.2.2.1
abbrev PU.er (x : PU) : Int32 := x.2.2.2.2.2.2.1
abbrev PU.ea (x : PU) : Int32 := x.2.2.2.2.2.2.2.1
abbrev PU.vs (x : PU) : Nat := x.2.2.2.2.2.2.2.2.1
abbrev PU.wn (x : PU) : Nat := x.2.2.2.2.2.2.2.2.2.1
abbrev PU.op (x : PU) : Nat := x.2.2.2.2.2.2.2.2.2.2.1
abbrev PU.bw (x : PU) : Bool := x.2.2.2.2.2.2.2.2.2.2.2.1
abbrev PU.bb (x : PU) : Bool := x.2.2.2.2.2.2.2.2.2.2.2.2.1
abbrev PU.bp (x : PU) : Bool := x.2.2.2.2.2.2.2.2.2.2.2.2.2.1
abbrev PU.uf (x : PU) : Int32 := x.2.2.2.2.2.2.2.2.2.2.2.2.2.2
def PUok (fA0 : Nat → Int64) (x : PS) (u : PU) : Prop := u.er = nI 0 ∧ u.at_ = x.at_ ∧ u.vs = x.S.length ∧ u.wn = x.ops.length ∧ u.op = opens x.ops ∧ u.bw = x.wants ∧ u.bb = x.begins ∧ u.bp = x.plain ∧ u.uf = ufI x.unf ∧ OpsH x.ops u.fW u.fP ∧ StkH x.S u.fA ∧ Kp fA0 u.fA (fun k => k < 24)
def PUst (fA0 : Nat → Int64) (ea : Int32) : PR → PU → Prop
  | Sum.inl (c, k), u => u.er = nI c ∧ u.ea = nI k ∧ Kp fA0 u.fA (fun k => k < 24)
  | Sum.inr (x, _), u => PUok fA0 x u ∧ u.ea = ea
theorem PUst.e {fA0 : Nat → Int64} {ea : Int32} {R : PR} {u : PU} {c k : Nat} (h : R = .er c k) (h1 : u.er = nI c) (h2 : u.ea = nI k) (h3 : Kp fA0 u.fA (fun k => k < 24)) : PUst fA0 ea R u := by rw [h]; exact ⟨h1, h2, h3⟩
theorem PUst.g {fA0 : Nat → Int64} {ea : Int32} {R : PR} {u : PU} {x : PS} (h : R = .go x) (h1 : PUok fA0 x u) (h2 : u.ea = ea) : PUst fA0 ea R u := by rw [h]; exact ⟨h1, h2⟩
theorem PUst.f {fA0 : Nat → Int64} {ea : Int32} {R : PR} {u : PU} {x : PS} (h : R = .fin x) (h1 : PUok fA0 x u) (h2 : u.ea = ea) : PUst fA0 ea R u := by rw [h]; exact ⟨h1, h2⟩
