/-! the text: characters, what stands at a place -/
def tx (fT : Nat → Int32) (i : Nat) : Nat := (fT i).toBitVec.toNat % 256
/-- the character at a place; 256 behind the end -/
def ch (T : Nat → Nat) (ln i : Nat) : Nat := if i < ln then T i else 256
def chI (c : Nat) : Int32 := if c < 256 then nI c else -1
theorem ch_lt {fT : Nat → Int32} {ln i : Nat} (h : i < ln) : ch (tx fT) ln i = tx fT i := if_pos h
theorem ch_ge {T : Nat → Nat} {ln i : Nat} (h : ¬ i < ln) : ch T ln i = 256 := if_neg h
theorem tx_lt (fT : Nat → Int32) (i : Nat) : tx fT i < 256 := Nat.mod_lt _ (by decide)
theorem ch_le (fT : Nat → Int32) (ln i : Nat) : ch (tx fT) ln i ≤ 256 := by
  unfold ch
  split
  · exact Nat.le_of_lt (tx_lt fT i)
  · exact Nat.le_refl _
theorem chI_n {c : Nat} (h : c < 256) : chI c = nI c := if_pos h
theorem chI_e : chI 256 = -1 := rfl
theorem chI_eq {c k : Nat} (hc : c ≤ 256) (hk : k < 256) : chI c = nI k ↔ c = k := by
  unfold chI
  split
  · exact nI_eq (by omega) (by omega)
  · constructor
    · intro h
      exfalso
      have := congrArg Int32.toInt h
      rw [nI_toInt (by omega)] at this
      have h2 : (-1 : Int32).toInt = -1 := by decide
      omega
    · intro h; omega
theorem chI_end {c : Nat} (hc : c ≤ 256) : chI c = (-1) ↔ c = 256 := by
  unfold chI
  split
  · constructor
    · intro h
      exfalso
      have := congrArg Int32.toInt h
      rw [nI_toInt (by omega)] at this
      have h2 : (-1 : Int32).toInt = -1 := by decide
      omega
    · intro h; omega
  · exact ⟨fun _ => by omega, fun _ => rfl⟩
def isD (c : Nat) : Bool := decide (48 ≤ c) && decide (c ≤ 57)
theorem isD_lt {c : Nat} (h : isD c = true) : 48 ≤ c ∧ c ≤ 57 := by
  unfold isD at h
  rw [Bool.and_eq_true, decide_eq_true_iff, decide_eq_true_iff] at h
  exact h
theorem chI_D {c : Nat} (hc : c ≤ 256) : inB (chI c) (nI 48) (nI 57) = isD c := by
  unfold inB isD chI
  split
  · rw [decide_eq_decide.mpr (nI_leI (a := 48) (by omega) (by omega)), decide_eq_decide.mpr (nI_leI (a := c) (by omega) (by omega))]
  · have : c = 256 := by omega
    subst this; decide
def isS (c : Nat) : Bool := decide (c = 32)
/-- the first place from i on that P isn't true of -/
def runU (P : Nat → Bool) (T : Nat → Nat) (ln : Nat) : Nat → Nat → Nat
  | 0, i => i
  | f + 1, i => if P (ch T ln i) = true then runU P T ln f (i + 1) else i
def runE (P : Nat → Bool) (T : Nat → Nat) (ln i : Nat) : Nat := runU P T ln (ln - i) i
theorem runE_t {P : Nat → Bool} {T : Nat → Nat} {ln i : Nat} (h : i < ln) (hp : P (ch T ln i) = true) : runE P T ln i = runE P T ln (i + 1) := by
  unfold runE
  rw [show ln - i = (ln - (i + 1)) + 1 by omega]
  exact if_pos hp
theorem runE_f {P : Nat → Bool} {T : Nat → Nat} {ln i : Nat} (hp : P (ch T ln i) = false) : runE P T ln i = i := by
  unfold runE
  cases ln - i with
  | zero => rfl
  | succ f => exact if_neg (by rw [hp]; decide)
theorem runU_b {P : Nat → Bool} {T : Nat → Nat} {ln : Nat} : ∀ (f i : Nat), i ≤ runU P T ln f i ∧ runU P T ln f i ≤ i + f
  | 0, i => ⟨Nat.le_refl _, Nat.le_refl _⟩
  | f + 1, i => by
    have := runU_b (P := P) (T := T) (ln := ln) f (i + 1)
    show i ≤ (if P (ch T ln i) = true then runU P T ln f (i + 1) else i) ∧ (if P (ch T ln i) = true then runU P T ln f (i + 1) else i) ≤ i + (f + 1)
    split <;> omega
theorem runE_ge {P : Nat → Bool} {T : Nat → Nat} {ln i : Nat} : i ≤ runE P T ln i := (runU_b _ _).1
theorem runE_le {P : Nat → Bool} {T : Nat → Nat} {ln i : Nat} (h : i ≤ ln) : runE P T ln i ≤ ln := by
  have := (runU_b (P := P) (T := T) (ln := ln) (ln - i) i).2
  unfold runE; omega
theorem runU_no {P : Nat → Bool} (hP : P 256 = false) {T : Nat → Nat} {ln : Nat} : ∀ (f i : Nat), ln ≤ i + f → P (ch T ln (runU P T ln f i)) = false
  | 0, i, h => by
    show P (ch T ln i) = false
    rw [ch_ge (by omega)]; exact hP
  | f + 1, i, h => by
    show P (ch T ln (if P (ch T ln i) = true then runU P T ln f (i + 1) else i)) = false
    split
    · exact runU_no hP f (i + 1) (by omega)
    · rename_i c; exact Bool.not_eq_true _ ▸ c
theorem runE_no {P : Nat → Bool} (hP : P 256 = false) {T : Nat → Nat} {ln i : Nat} : P (ch T ln (runE P T ln i)) = false := runU_no hP _ _ (by omega)
theorem runU_in {P : Nat → Bool} {T : Nat → Nat} {ln : Nat} : ∀ (f i j : Nat), i ≤ j → j < runU P T ln f i → P (ch T ln j) = true
  | 0, i, j, h1, h2 => by
    have h2 : j < i := h2
    omega
  | f + 1, i, j, h1, h2 => by
    have h2 : j < (if P (ch T ln i) = true then runU P T ln f (i + 1) else i) := h2
    split at h2
    · rename_i c
      by_cases e : j = i
      · subst e; exact c
      · exact runU_in f (i + 1) j (by omega) h2
    · omega
theorem runE_in {P : Nat → Bool} {T : Nat → Nat} {ln i j : Nat} (h1 : i ≤ j) (h2 : j < runE P T ln i) : P (ch T ln j) = true := runU_in _ _ _ h1 h2
theorem D_in {P : Nat → Bool} (hP : P 256 = false) {T : Nat → Nat} {ln i : Nat} (h : P (ch T ln i) = true) : i < ln := by
  by_cases c : i < ln
  · exact c
  · rw [ch_ge c, hP] at h; cases h
abbrev sk (T : Nat → Nat) (ln i : Nat) : Nat := runE isS T ln i
abbrev dE (T : Nat → Nat) (ln i : Nat) : Nat := runE isD T ln i
/-- the number of k digits from b on; at most eight count -/
def nv (T : Nat → Nat) (b : Nat) : Nat → Nat
  | 0 => 0
  | k + 1 => if k < 8 then 10 * nv T b k + T (b + k) - 48 else nv T b k
theorem nv_lt {T : Nat → Nat} {ln b : Nat} : ∀ k, (∀ j, j < k → isD (ch T ln (b + j)) = true) → nv T b k < 10 ^ (min k 8)
  | 0, _ => Nat.pow_pos (by decide)
  | k + 1, h => by
    have h1 := nv_lt (ln := ln) k (fun j hj => h j (by omega))
    have h2 := h k (by omega)
    have h3 := D_in rfl h2
    have h4 := isD_lt h2
    unfold ch at h4
    rw [if_pos h3] at h4
    show (if k < 8 then 10 * nv T b k + T (b + k) - 48 else nv T b k) < _
    split
    · rw [show min (k + 1) 8 = min k 8 + 1 by omega, Nat.pow_succ]; omega
    · rw [show min (k + 1) 8 = min k 8 by omega]; exact h1
theorem nv8 {T : Nat → Nat} {ln b : Nat} {k : Nat} (h : ∀ j, j < k → isD (ch T ln (b + j)) = true) : nv T b k < 100000000 := by
  have h1 := nv_lt (ln := ln) k h
  have h2 : 10 ^ (min k 8) ≤ 10 ^ 8 := Nat.pow_le_pow_right (by decide) (by omega)
  have h3 : 10 ^ 8 = 100000000 := by decide
  omega
theorem nv_dE {T : Nat → Nat} {ln b : Nat} {k : Nat} (h : b + k ≤ dE T ln b) : ∀ j, j < k → isD (ch T ln (b + j)) = true := fun j hj => runE_in (i := b) (by omega) (by show b + j < dE T ln b; omega)
/-- the number at a place: 0, or the code of what is wrong with it -/
def numE (T : Nat → Nat) (ln least b : Nat) : Nat := if isD (ch T ln b) = false then 1 else if 8 < dE T ln b - b ∨ nv T b (dE T ln b - b) < least then 2 else 0
def numV (T : Nat → Nat) (ln b : Nat) : Nat := nv T b (dE T ln b - b)
theorem numV8 {T : Nat → Nat} {ln b : Nat} : numV T ln b < 100000000 := nv8 (ln := ln) (nv_dE (by have : b ≤ dE T ln b := runE_ge; omega))
/-- fails: the first error stays -/
def flE (er ea : Int32) (c k : Int32) : Int32 × Int32 := if er = nI 0 then (c, k) else (er, ea)
def lvl (c : Nat) : Nat := if c = 43 ∨ c = 45 ∨ c = 110 then 1 else if c = 42 then 2 else if c = 94 ∨ c = 46 then 3 else 0
/-- what waits: operators with their places, the latest first -/
def OpsH : List (Nat × Nat) → (Nat → Int32) → (Nat → Int32) → Prop
  | [], _, _ => True
  | (a, k) :: r, fW, fP => a < 256 ∧ k < 1000 ∧ fW r.length = nI a ∧ fP r.length = nI k ∧ OpsH r fW fP
theorem OpsH.fr {fW fP fW' fP' : Nat → Int32} : ∀ {L : List (Nat × Nat)}, OpsH L fW fP → (∀ j, j < L.length → fW' j = fW j ∧ fP' j = fP j) → OpsH L fW' fP'
  | [], _, _ => trivial
  | (a, k) :: r, h, hf => by
    obtain ⟨h1, h2, h3, h4, h5⟩ := h
    have h0 := hf r.length (Nat.lt_succ_self _)
    exact ⟨h1, h2, h0.1.trans h3, h0.2.trans h4, OpsH.fr h5 (fun j hj => hf j (Nat.lt_succ_of_lt hj))⟩
theorem OpsH.add {L : List (Nat × Nat)} {fW fP : Nat → Int32} {a k n : Nat} (h : OpsH L fW fP) (hn : L.length = n) (ha : a < 256) (hk : k < 1000) : OpsH ((a, k) :: L) (upd fW n (nI a)) (upd fP n (nI k)) := by
  subst hn
  exact ⟨ha, hk, pk_us .., pk_us .., OpsH.fr h (fun j hj => ⟨pk_un (by omega), pk_un (by omega)⟩)⟩
/-- the values, the latest first -/
def StkH : List MV → (Nat → Int64) → Prop
  | [], _ => True
  | M :: r, fA => Hold fA (32 + r.length) M ∧ MSm M ∧ StkH r fA
theorem StkH.fr {fA fA' : Nat → Int64} : ∀ {L : List MV}, StkH L fA → Kp fA fA' (fun k => 32 ≤ k ∧ k < 32 + L.length) → StkH L fA'
  | [], _, _ => trivial
  | M :: r, h, hf => ⟨hf.hold ⟨by omega, by show 32 + r.length < 32 + (r.length + 1); omega⟩ h.1, h.2.1, StkH.fr h.2.2 (fun k hk => hf k ⟨hk.1, by have := hk.2; show k < 32 + (r.length + 1); omega⟩)⟩
def opens (L : List (Nat × Nat)) : Nat := (L.filter (fun x => x.1 == 40)).length
def topL : List (Nat × Nat) → Nat
  | [] => 0
  | (a, _) :: _ => if a = 40 then 0 else lvl a
/-- how the operators that wait stand: the level goes up, but behind '(' -/
def WfO : List (Nat × Nat) → Prop
  | [] => True
  | (a, _) :: r => (a = 40 ∨ topL r < lvl a) ∧ WfO r
def bins : List (Nat × Nat) → Nat
  | [] => 0
  | (a, _) :: r => bins r + (if a = 40 ∨ a = 110 then 0 else 1)
theorem lvl3 (a : Nat) : lvl a ≤ 3 := by
  unfold lvl
  split
  · omega
  · split
    · omega
    · split <;> omega
theorem topL3 : ∀ L, topL L ≤ 3
  | [] => by decide
  | (a, _) :: _ => by
    show (if a = 40 then 0 else lvl a) ≤ 3
    split
    · omega
    · exact lvl3 a
theorem opens_c (a k : Nat) (L : List (Nat × Nat)) : opens ((a, k) :: L) = opens L + (if a = 40 then 1 else 0) := by
  unfold opens
  by_cases h : a = 40
  · subst h; rfl
  · rw [List.filter_cons_of_neg (by simpa using h), if_neg h]; rfl
theorem WfO.len : ∀ {L : List (Nat × Nat)}, WfO L → L.length ≤ 4 * opens L + topL L
  | [], _ => Nat.zero_le _
  | (a, k) :: r, h => by
    have h1 := WfO.len h.2
    have h2 := topL3 r
    rw [opens_c]
    show r.length + 1 ≤ 4 * (opens r + (if a = 40 then 1 else 0)) + (if a = 40 then 0 else lvl a)
    rcases h.1 with e | e
    · rw [if_pos e, if_pos e]; omega
    · by_cases e2 : a = 40
      · rw [if_pos e2, if_pos e2]; omega
      · rw [if_neg e2, if_neg e2]; omega
theorem bins_le : ∀ L, bins L ≤ L.length
  | [] => Nat.le_refl _
  | (a, k) :: r => by
    have := bins_le r
    show bins r + (if a = 40 ∨ a = 110 then 0 else 1) ≤ r.length + 1
    split <;> omega
theorem WfO.bin : ∀ {L : List (Nat × Nat)}, WfO L → bins L ≤ 3 * opens L + topL L
  | [], _ => Nat.zero_le _
  | (a, k) :: r, h => by
    have h1 := WfO.bin h.2
    have h2 := topL3 r
    rw [opens_c]
    show bins r + (if a = 40 ∨ a = 110 then 0 else 1) ≤ 3 * (opens r + (if a = 40 then 1 else 0)) + (if a = 40 then 0 else lvl a)
    rcases h.1 with e | e
    · rw [if_pos (Or.inl e), if_pos e, if_pos e]; omega
    · by_cases e2 : a = 40
      · rw [if_pos (Or.inl e2), if_pos e2, if_pos e2]; omega
      · rw [if_neg e2, if_neg e2]; split <;> omega
