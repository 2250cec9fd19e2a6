theorem va_A0 {n q : Nat} (h : va_A [] n q) : n ≤ q := by
  rcases h with ⟨k, e, h⟩ | h
  · simp at h
  · exact h
theorem tk_l {g i j : Nat} (hg : g < 64) (hi : i < 64) (hj : j < 64) : nI g = nI j - nI i ↔ g + i = j := by
  constructor
  · intro h
    have h2 := congrArg (fun z => z + nI i) h
    simp only [Int32.sub_add_cancel] at h2
    rw [nI_add] at h2
    exact (nI_eq (by omega) (by omega)).mp h2
  · intro h
    subst h
    rw [← nI_add, Int32.add_sub_cancel]
/-- the sum that says whether a vector lies in a value -/
def ozS (v : Nat → Int64) (M : MV) (x : Nat) : Nat → Int64
  | 0 => 0
  | k + 1 => if x / 2 ^ k &&& 1 = 1 then ozS v M x k + (ordS (2 ^ k) (x ^^^ 2 ^ k)).toInt64 * v k * M ((x ^^^ 2 ^ k) + 1) else ozS v M x k
def ozN (v : Nat → Int64) (M : MV) (n : Nat) : Nat → Bool
  | 0 => true
  | x + 1 => ozN v M n x && decide (ozS v M x n = 0)
theorem ozN_mono {v : Nat → Int64} {M : MV} {n a b : Nat} (h : ozN v M n a = false) (hm : a ≤ b) : ozN v M n b = false := by
  induction b with
  | zero => rw [← Nat.le_zero.mp hm]; exact h
  | succ b ih =>
    by_cases e : a = b + 1
    · rw [← e]; exact h
    · show (ozN v M n b && _) = false
      rw [ih (by omega)]; rfl
def allB (M : MV) (k : Nat) : Nat → Bool
  | 0 => true
  | b + 1 => allB M k b && (decide (b / 2 ^ k &&& 1 = 1) || decide (M (b + 1) = 0))
def vinC (M : MV) (n : Nat) : Nat → Nat
  | 0 => 0
  | k + 1 => vinC M n k ||| (if allB M k (2 ^ n) = true then 2 ^ k else 0)
theorem vinC_lt (M : MV) (n : Nat) : ∀ k, vinC M n k < 2 ^ k
  | 0 => Nat.zero_lt_one
  | k + 1 => by
    show vinC M n k ||| _ < _
    have h := vinC_lt M n k
    refine Nat.or_lt_two_pow (Nat.lt_of_lt_of_le h (Nat.pow_le_pow_right (by decide) (by omega))) ?_
    split
    · exact Nat.pow_lt_pow_right (by decide) (by omega)
    · exact Nat.two_pow_pos _
theorem bI_and1 (x : Bool) : bI x &&& nI 1 = bI x := by cases x <;> decide
theorem bI_and0 (x : Bool) : bI x &&& nI 0 = bI false := by cases x <;> decide
theorem vinC_bit (M : MV) (n j : Nat) : ∀ k, (vinC M n k).testBit j = (decide (j < k) && allB M j (2 ^ n))
  | 0 => by simp [vinC]
  | k + 1 => by
    show (vinC M n k ||| _).testBit j = _
    rw [Nat.testBit_or, vinC_bit M n j k]
    by_cases e : j = k
    · subst e
      by_cases h : allB M j (2 ^ n) = true
      · rw [if_pos h, h]; simp [Nat.testBit_two_pow_self]
      · rw [if_neg h]; rw [Bool.not_eq_true] at h; rw [h]; simp
    · have h1 : (if allB M k (2 ^ n) = true then 2 ^ k else 0).testBit j = false := by
        split
        · rw [Nat.testBit_two_pow_of_ne (Ne.symm e)]
        · simp
      rw [h1, Bool.or_false, show decide (j < k + 1) = decide (j < k) from decide_eq_decide.mpr (by omega)]
theorem vinN_bit (M : MV) (full j : Nat) : ∀ k, (vinN M full k).testBit j = (full.testBit j && allB M j k)
  | 0 => (Bool.and_true _).symm
  | k + 1 => by
    show (if M (k + 1) = 0 then vinN M full k else vinN M full k &&& k).testBit j = (full.testBit j && (allB M j k && (decide (k / 2 ^ j &&& 1 = 1) || decide (M (k + 1) = 0))))
    by_cases h : M (k + 1) = 0
    · rw [if_pos h, vinN_bit M full j k, decide_eq_true h, Bool.or_true, Bool.and_true]
    · rw [if_neg h, Nat.testBit_and, vinN_bit M full j k, decide_eq_false h, Bool.or_false, Bool.and_assoc]
      rw [show decide (k / 2 ^ j &&& 1 = 1) = k.testBit j from by rw [Bool.eq_iff_iff, decide_eq_true_iff, bitT]]
theorem vinC_vin {M : MV} {p q r : Nat} (_hn : p + q + r ≤ 5) : vinC M (p + q + r) (p + q + r) = vinN M (2 ^ (p + q + r) - 1) (2 ^ (p + q + r)) := by
  apply Nat.eq_of_testBit_eq
  intro j
  rw [vinC_bit, vinN_bit, Nat.testBit_two_pow_sub_one]
theorem lg_k : ∀ {g k : Nat}, g < 64 → k ≤ 5 → 1 < g / 2 ^ k → k + 1 ≤ 5 := by
  have h : ∀ g, g < 64 → ∀ k, k ≤ 5 → 1 < g / 2 ^ k → k + 1 ≤ 5 := by decide +kernel
  exact fun {g k} a b c => h g a k b c
theorem pc_2k : ∀ {k : Nat}, k ≤ 5 → popc (2 ^ k) = 1 ∧ popc (2 ^ k - 1) = k := by
  have h : ∀ k, k ≤ 5 → popc (2 ^ k) = 1 ∧ popc (2 ^ k - 1) = k := by decide +kernel
  exact fun {k} a => h k a
theorem ob_no {M : MV} {n k : Nat} (hg : grS M < 64) (hk : k ≤ 5) (h1 : k = 0 ∨ 1 < grS M / 2 ^ (k - 1)) (h2 : grS M / 2 ^ k ≤ 1) (h3 : ¬ grS M = 2 ^ k) : oneB n M = false := by
  have h : ∀ g, g < 64 → ∀ k, k < 6 → ((k = 0 ∨ 1 < g / 2 ^ (k - 1)) ∧ g / 2 ^ k ≤ 1 ∧ ¬ g = 2 ^ k) → ¬ popc g = 1 := by decide +kernel
  unfold oneB
  rw [decide_eq_false (h _ hg k (by omega) ⟨h1, h2, h3⟩), Bool.false_and]
theorem gr_hom {M : MV} {k : Nat} (h : grS M = 2 ^ k) {j : Nat} (hj : j < 32) (h0 : M (j + 1) ≠ 0) : popc j = k := by
  have key : ∀ n, j < n → (grN M n).testBit (popc j) = true := by
    intro n
    induction n with
    | zero => intro c; omega
    | succ n ih =>
      intro c
      show (grN M n ||| (if M (n + 1) = 0 then 0 else 2 ^ popc n)).testBit (popc j) = true
      rw [Nat.testBit_or]
      by_cases e : j = n
      · subst e; rw [if_neg h0, Nat.testBit_two_pow_self, Bool.or_true]
      · rw [ih (by omega), Bool.true_or]
  have h1 := key 32 hj
  have h2 : (2 ^ k).testBit (popc j) = true := by rw [← h]; exact h1
  by_cases e : popc j = k
  · exact e
  · rw [Nat.testBit_two_pow_of_ne (Ne.symm e)] at h2; cases h2
theorem pop_xor : ∀ {x k : Nat}, x < 32 → k < 5 → x / 2 ^ k &&& 1 = 1 → popc (x ^^^ 2 ^ k) + 1 = popc x := by
  have h : ∀ x, x < 32 → ∀ k, k < 5 → x / 2 ^ k &&& 1 = 1 → popc (x ^^^ 2 ^ k) + 1 = popc x := by decide +kernel
  exact fun {x k} a b c => h x a k b c
theorem and_2k {x k : Nat} : x &&& 2 ^ k ≠ 0 ↔ x / 2 ^ k &&& 1 = 1 := by
  rw [bitT]
  have hb : (x &&& 2 ^ k).testBit k = x.testBit k := by rw [Nat.testBit_and, Nat.testBit_two_pow_self, Bool.and_true]
  constructor
  · intro h
    apply Decidable.byContradiction
    intro c
    rw [Bool.not_eq_true] at c
    apply h
    apply Nat.eq_of_testBit_eq
    intro j
    rw [Nat.testBit_and, Nat.zero_testBit]
    by_cases e : j = k
    · subst e; rw [c, Bool.false_and]
    · rw [Nat.testBit_two_pow_of_ne (Ne.symm e), Bool.and_false]
  · intro h c
    rw [c, Nat.zero_testBit] at hb
    rw [← hb] at h; cases h
theorem oz_sum {M : MV} {st n x : Nat} (hn : n ≤ 5) : ∀ k, k ≤ n → ozS (tabS (facV M st) n) M x k = sumL M st x k
  | 0, _ => rfl
  | k + 1, hk => by
    show (if x / 2 ^ k &&& 1 = 1 then ozS (tabS (facV M st) n) M x k + (ordS (2 ^ k) (x ^^^ 2 ^ k)).toInt64 * tabS (facV M st) n k * M ((x ^^^ 2 ^ k) + 1) else ozS (tabS (facV M st) n) M x k) = (if x &&& 2 ^ k ≠ 0 ∧ st &&& 2 ^ k = 0 then sumL M st x k + (ordS st (2 ^ k)).toInt64 * M ((st ||| 2 ^ k) + 1) * (ordS (2 ^ k) (x ^^^ 2 ^ k)).toInt64 * M ((x ^^^ 2 ^ k) + 1) else sumL M st x k)
    rw [oz_sum hn k (by omega)]
    by_cases h1 : x / 2 ^ k &&& 1 = 1
    · rw [if_pos h1]
      have hx := and_2k.mpr h1
      rw [show tabS (facV M st) n k = facV M st k from if_pos (by omega)]
      by_cases h2 : st / 2 ^ k &&& 1 = 1
      · rw [if_neg (fun c => and_2k.mpr h2 c.2), show facV M st k = 0 from if_pos h2, Int64.mul_zero, Int64.zero_mul, Int64.add_zero]
      · rw [if_pos ⟨hx, Decidable.byContradiction (fun c => h2 (and_2k.mp c))⟩, show facV M st k = _ from if_neg h2]
        rw [Int64.mul_comm (ordS (2 ^ k) (x ^^^ 2 ^ k)).toInt64]
    · rw [if_neg h1, if_neg (fun c => h1 (and_2k.mp c.1))]
theorem sum_z {M : MV} {st g n x : Nat} (hn : n ≤ 5) (hM : grS M = 2 ^ g) (hx : x < 2 ^ n) (hp : ¬ popc x = g + 1) : ∀ k, k ≤ n → sumL M st x k = 0
  | 0, _ => rfl
  | k + 1, hk => by
    show (if x &&& 2 ^ k ≠ 0 ∧ st &&& 2 ^ k = 0 then sumL M st x k + (ordS st (2 ^ k)).toInt64 * M ((st ||| 2 ^ k) + 1) * (ordS (2 ^ k) (x ^^^ 2 ^ k)).toInt64 * M ((x ^^^ 2 ^ k) + 1) else sumL M st x k) = 0
    rw [sum_z hn hM hx hp k (by omega)]
    split
    · rename_i h
      have h32 : 2 ^ n ≤ 32 := (pow5 hn).1
      have hb := and_2k.mp h.1
      have h0 : M ((x ^^^ 2 ^ k) + 1) = 0 := by
        apply Decidable.byContradiction
        intro c
        have h1 := gr_hom hM (Nat.lt_of_lt_of_le (Nat.xor_lt_two_pow hx (pow_lt' (by omega))) h32) c
        have h2 := pop_xor (x := x) (k := k) (by omega) (by omega) hb
        omega
      rw [h0, Int64.mul_zero, Int64.add_zero]
    · rfl
theorem oz_lie {M : MV} {st g p q r : Nat} (hn : p + q + r ≤ 5) (hM : grS M = 2 ^ g) (_hs : popc st + 1 = g) : ozN (tabS (facV M st) (p + q + r)) M (p + q + r) (2 ^ (p + q + r)) = lieN M st g (p + q + r) (2 ^ (p + q + r)) := by
  have key : ∀ x, x ≤ 2 ^ (p + q + r) → ozN (tabS (facV M st) (p + q + r)) M (p + q + r) x = lieN M st g (p + q + r) x := by
    intro x
    induction x with
    | zero => intro _; rfl
    | succ x ih =>
      intro hx
      show (ozN _ M _ x && decide (ozS _ M x _ = 0)) = (if popc x = g + 1 then lieN M st g _ x && decide (sumL M st x _ = 0) else lieN M st g _ x)
      rw [ih (by omega), oz_sum hn _ (Nat.le_refl _)]
      by_cases e : popc x = g + 1
      · rw [if_pos e]
      · rw [if_neg e, decide_eq_true (sum_z hn hM (by omega) e _ (Nat.le_refl _)), Bool.and_true]
  exact key _ (Nat.le_refl _)
set_option maxHeartbeats 4000000 in
theorem xp0 {l : Launch} {dC : Nat → ClassId} {dI : Nat → Nat → Nat} {dA : Nat → ClassId} {s0 : State} {b0 : Addr} (Z : Z0 l dC dI dA s0 b0) (A : Nat → Prop) (sz : Nat) (hA : ∀ q : Nat, sz ≤ q → A q) (ao i j g : Nat) (hi : i < 64) (hj : j < 64) (hg9 : g < 64) : vx_Met l yX21_takes (ws_ yX21_takes cX21_takes 4 (some .boolean)) ({ frames := 1, cells := 0, slots := 0, locals := 60 } : Room) (gP [.ref ao, .int (nI i), .int (nI j), .int (nI g)] s0 A (fun H => H.size = sz)) (va_Qi (S := Unit) (fun r _ => r = bI (takG 2 i j g)) (B1 (dC, dI) A (fun _ => []) (fun _ _ => True)) A) (vx_X (S := Unit) (fun _ => False) (fun _ _ _ _ => True) A) 0 0 A := by
  refine vx_ofW (cc := cX21_takes) (maxL := 4) (ret := (some .boolean)) (by decide) rfl ?_
  intro p e s m args below meth c s₁ B hml hnoH hv
  obtain ⟨hav, hG, hsz⟩ := hv
  have hx := B.exec
  have hb := B.bytes
  have hr := B.returns
  have hts := atoms_spec (ws := (ws_ yX21_takes cX21_takes 4 (some .boolean))) B.pre
  have hts : ∀ w ∈ lw_all, w.before _ s = true := fun w h => hts w (List.mem_cons_of_mem _ h)
  have hown : s.vm.findClass RX21 = some m.cls := findClass_of_methodNamed B.named
  have hlocks := B.notSynchronized
  have hK := hG.K Z
  subst hsz
  have hS : va_S A s.heap s.heap [] := va_S.rf
  have hP : va_P (dC, dI) vwCl [] s.heap := fun k q h => by simp at h
  have hD : va_D A [] := ⟨fun i j p q h => by simp at h, fun k q h => by simp at h⟩
  have hl := lv_entry ([.ref ao, .int (nI i), .int (nI j), .int (nI g)]) (n := 4) (Nat.le_of_ble_eq_true rfl)
  rw [show entryFrame m args 4 = entryFrame m ([.ref ao, .int (nI i), .int (nI j), .int (nI g)] : List Value).toArray 4 from by rw [hav], lg_entry_eq]
  generalize (lg_sl ([.ref ao, .int (nI i), .int (nI j), .int (nI g)]) ++ List.replicate (4 - (lg_sl ([.ref ao, .int (nI i), .int (nI j), .int (nI g)])).length) Slot.unset).toArray = ls at hl ⊢
  have hl : lv_has ls 4 [(0, .ref ao), (1, .int (nI i)), (2, .int (nI j)), (3, .int (nI g))] := hl
  generalize hQe : vx_MQ below _ _ _ s _ _ _ = Q
  change W p l e ({ frames := 1, cells := 0, slots := 0, locals := 60 } : Room) s m args below meth c s.heap [] 0 0 Q (F0 m 0 ls [])
  refine lv_iconst (v := nI 1) hx hb dX21_takes_0 (by decide) ?_
  subst hQe
  refine vx_ret ?_
  exact W.zret (v := nI 1) hx hb hr rfl (fun tz ht hW => ⟨⟨_, (), rfl, rfl, B1_at ht (hP.sub [] rfl) (hD.sub [] (by decide) rfl) trivial⟩, hS.F ht⟩) hS.2.2 dX21_takes_1
set_option maxHeartbeats 4000000 in
theorem xp1 {l : Launch} {dC : Nat → ClassId} {dI : Nat → Nat → Nat} {dA : Nat → ClassId} {s0 : State} {b0 : Addr} (Z : Z0 l dC dI dA s0 b0) (A : Nat → Prop) (sz : Nat) (hA : ∀ q : Nat, sz ≤ q → A q) (ao i j g : Nat) (hi : i < 64) (hj : j < 64) (hg9 : g < 64) : vx_Met l yX22_takes (ws_ yX22_takes cX22_takes 4 (some .boolean)) ({ frames := 1, cells := 0, slots := 0, locals := 60 } : Room) (gP [.ref ao, .int (nI i), .int (nI j), .int (nI g)] s0 A (fun H => H.size = sz)) (va_Qi (S := Unit) (fun r _ => r = bI (takG 3 i j g)) (B1 (dC, dI) A (fun _ => []) (fun _ _ => True)) A) (vx_X (S := Unit) (fun _ => False) (fun _ _ _ _ => True) A) 0 0 A := by
  refine vx_ofW (cc := cX22_takes) (maxL := 4) (ret := (some .boolean)) (by decide) rfl ?_
  intro p e s m args below meth c s₁ B hml hnoH hv
  obtain ⟨hav, hG, hsz⟩ := hv
  have hx := B.exec
  have hb := B.bytes
  have hr := B.returns
  have hts := atoms_spec (ws := (ws_ yX22_takes cX22_takes 4 (some .boolean))) B.pre
  have hts : ∀ w ∈ lw_all, w.before _ s = true := fun w h => hts w (List.mem_cons_of_mem _ h)
  have hown : s.vm.findClass RX22 = some m.cls := findClass_of_methodNamed B.named
  have hlocks := B.notSynchronized
  have hK := hG.K Z
  subst hsz
  have hS : va_S A s.heap s.heap [] := va_S.rf
  have hP : va_P (dC, dI) vwCl [] s.heap := fun k q h => by simp at h
  have hD : va_D A [] := ⟨fun i j p q h => by simp at h, fun k q h => by simp at h⟩
  have hl := lv_entry ([.ref ao, .int (nI i), .int (nI j), .int (nI g)]) (n := 4) (Nat.le_of_ble_eq_true rfl)
  rw [show entryFrame m args 4 = entryFrame m ([.ref ao, .int (nI i), .int (nI j), .int (nI g)] : List Value).toArray 4 from by rw [hav], lg_entry_eq]
  generalize (lg_sl ([.ref ao, .int (nI i), .int (nI j), .int (nI g)]) ++ List.replicate (4 - (lg_sl ([.ref ao, .int (nI i), .int (nI j), .int (nI g)])).length) Slot.unset).toArray = ls at hl ⊢
  have hl : lv_has ls 4 [(0, .ref ao), (1, .int (nI i)), (2, .int (nI j)), (3, .int (nI g))] := hl
  generalize hQe : vx_MQ below _ _ _ s _ _ _ = Q
  change W p l e ({ frames := 1, cells := 0, slots := 0, locals := 60 } : Room) s m args below meth c s.heap [] 0 0 Q (F0 m 0 ls [])
  refine lv_iload_n hx hb dX22_takes_0 rfl (lv_at hl 3 rfl) ?_
  refine lv_iload_n hx hb dX22_takes_1 rfl (lv_at hl 1 rfl) ?_
  refine lv_iload_n hx hb dX22_takes_2 rfl (lv_at hl 2 rfl) ?_
  refine lv_iadd hx hb dX22_takes_3 ?_
  refine e_i (y := nI (i + j)) (nI_add _ _) ?_
  refine lv_icmp_ne (tgt := 11) hx hb dX22_takes_4 (by decide) (fun c_4 => ?_) (fun c_4 => ?_)
  · have c_4 : ¬ g = (i + j) := fun h => c_4 ((nI_eq (a := g) (b := (i + j)) (by omega) (by omega)).mpr h)
    refine lv_iconst (v := nI 0) hx hb dX22_takes_11 (by decide) ?_
    subst hQe
    refine vx_ret ?_
    exact W.zret (v := nI 0) hx hb hr rfl (fun tz ht hW => ⟨⟨_, (), rfl, (by unfold takG; rw [if_neg (by decide), if_pos rfl, decide_eq_false c_4]; rfl), B1_at ht (hP.sub [] rfl) (hD.sub [] (by decide) rfl) trivial⟩, hS.F ht⟩) hS.2.2 dX22_takes_12
  · have c_4 : g = (i + j) := (nI_eq (a := g) (b := (i + j)) (by omega) (by omega)).mp c_4
    refine lv_iconst (v := nI 1) hx hb dX22_takes_7 (by decide) ?_
    refine lv_goto (tgt := 12) hx hb dX22_takes_8 (by decide) ?_
    subst hQe
    refine vx_ret ?_
    exact W.zret (v := nI 1) hx hb hr rfl (fun tz ht hW => ⟨⟨_, (), rfl, (by unfold takG; rw [if_neg (by decide), if_pos rfl, decide_eq_true c_4]; rfl), B1_at ht (hP.sub [] rfl) (hD.sub [] (by decide) rfl) trivial⟩, hS.F ht⟩) hS.2.2 dX22_takes_12
set_option maxHeartbeats 4000000 in
theorem xp2 {l : Launch} {dC : Nat → ClassId} {dI : Nat → Nat → Nat} {dA : Nat → ClassId} {s0 : State} {b0 : Addr} (Z : Z0 l dC dI dA s0 b0) (A : Nat → Prop) (sz : Nat) (hA : ∀ q : Nat, sz ≤ q → A q) (ao i j g : Nat) (hi : i < 64) (hj : j < 64) (hg9 : g < 64) : vx_Met l yX23_takes (ws_ yX23_takes cX23_takes 4 (some .boolean)) ({ frames := 1, cells := 0, slots := 0, locals := 60 } : Room) (gP [.ref ao, .int (nI i), .int (nI j), .int (nI g)] s0 A (fun H => H.size = sz)) (va_Qi (S := Unit) (fun r _ => r = bI (takG 4 i j g)) (B1 (dC, dI) A (fun _ => []) (fun _ _ => True)) A) (vx_X (S := Unit) (fun _ => False) (fun _ _ _ _ => True) A) 0 0 A := by
  refine vx_ofW (cc := cX23_takes) (maxL := 4) (ret := (some .boolean)) (by decide) rfl ?_
  intro p e s m args below meth c s₁ B hml hnoH hv
  obtain ⟨hav, hG, hsz⟩ := hv
  have hx := B.exec
  have hb := B.bytes
  have hr := B.returns
  have hts := atoms_spec (ws := (ws_ yX23_takes cX23_takes 4 (some .boolean))) B.pre
  have hts : ∀ w ∈ lw_all, w.before _ s = true := fun w h => hts w (List.mem_cons_of_mem _ h)
  have hown : s.vm.findClass RX23 = some m.cls := findClass_of_methodNamed B.named
  have hlocks := B.notSynchronized
  have hK := hG.K Z
  subst hsz
  have hS : va_S A s.heap s.heap [] := va_S.rf
  have hP : va_P (dC, dI) vwCl [] s.heap := fun k q h => by simp at h
  have hD : va_D A [] := ⟨fun i j p q h => by simp at h, fun k q h => by simp at h⟩
  have hl := lv_entry ([.ref ao, .int (nI i), .int (nI j), .int (nI g)]) (n := 4) (Nat.le_of_ble_eq_true rfl)
  rw [show entryFrame m args 4 = entryFrame m ([.ref ao, .int (nI i), .int (nI j), .int (nI g)] : List Value).toArray 4 from by rw [hav], lg_entry_eq]
  generalize (lg_sl ([.ref ao, .int (nI i), .int (nI j), .int (nI g)]) ++ List.replicate (4 - (lg_sl ([.ref ao, .int (nI i), .int (nI j), .int (nI g)])).length) Slot.unset).toArray = ls at hl ⊢
  have hl : lv_has ls 4 [(0, .ref ao), (1, .int (nI i)), (2, .int (nI j)), (3, .int (nI g))] := hl
  generalize hQe : vx_MQ below _ _ _ s _ _ _ = Q
  change W p l e ({ frames := 1, cells := 0, slots := 0, locals := 60 } : Room) s m args below meth c s.heap [] 0 0 Q (F0 m 0 ls [])
  refine lv_iload_n hx hb dX23_takes_0 rfl (lv_at hl 3 rfl) ?_
  refine lv_iload_n hx hb dX23_takes_1 rfl (lv_at hl 2 rfl) ?_
  refine lv_iload_n hx hb dX23_takes_2 rfl (lv_at hl 1 rfl) ?_
  refine lv_isub hx hb dX23_takes_3 ?_
  refine lv_icmp_ne (tgt := 11) hx hb dX23_takes_4 (by decide) (fun c_4 => ?_) (fun c_4 => ?_)
  · refine lv_iconst (v := nI 0) hx hb dX23_takes_11 (by decide) ?_
    subst hQe
    refine vx_ret ?_
    exact W.zret (v := nI 0) hx hb hr rfl (fun tz ht hW => ⟨⟨_, (), rfl, (by unfold takG; rw [if_neg (by decide), if_neg (by decide), if_pos rfl, decide_eq_false (fun h => c_4 ((tk_l (g := g) (i := i) (j := j) (by omega) (by omega) (by omega)).mpr h))]; rfl), B1_at ht (hP.sub [] rfl) (hD.sub [] (by decide) rfl) trivial⟩, hS.F ht⟩) hS.2.2 dX23_takes_12
  · refine lv_iconst (v := nI 1) hx hb dX23_takes_7 (by decide) ?_
    refine lv_goto (tgt := 12) hx hb dX23_takes_8 (by decide) ?_
    subst hQe
    refine vx_ret ?_
    exact W.zret (v := nI 1) hx hb hr rfl (fun tz ht hW => ⟨⟨_, (), rfl, (by unfold takG; rw [if_neg (by decide), if_neg (by decide), if_pos rfl, decide_eq_true ((tk_l (g := g) (i := i) (j := j) (by omega) (by omega) (by omega)).mp c_4)]; rfl), B1_at ht (hP.sub [] rfl) (hD.sub [] (by decide) rfl) trivial⟩, hS.F ht⟩) hS.2.2 dX23_takes_12
set_option maxHeartbeats 4000000 in
theorem xp3 {l : Launch} {dC : Nat → ClassId} {dI : Nat → Nat → Nat} {dA : Nat → ClassId} {s0 : State} {b0 : Addr} (Z : Z0 l dC dI dA s0 b0) (A : Nat → Prop) (sz : Nat) (hA : ∀ q : Nat, sz ≤ q → A q) (ao i j g : Nat) (hi : i < 64) (hj : j < 64) (hg9 : g < 64) : vx_Met l yX24_takes (ws_ yX24_takes cX24_takes 4 (some .boolean)) ({ frames := 1, cells := 0, slots := 0, locals := 60 } : Room) (gP [.ref ao, .int (nI i), .int (nI j), .int (nI g)] s0 A (fun H => H.size = sz)) (va_Qi (S := Unit) (fun r _ => r = bI (takG 5 i j g)) (B1 (dC, dI) A (fun _ => []) (fun _ _ => True)) A) (vx_X (S := Unit) (fun _ => False) (fun _ _ _ _ => True) A) 0 0 A := by
  refine vx_ofW (cc := cX24_takes) (maxL := 4) (ret := (some .boolean)) (by decide) rfl ?_
  intro p e s m args below meth c s₁ B hml hnoH hv
  obtain ⟨hav, hG, hsz⟩ := hv
  have hx := B.exec
  have hb := B.bytes
  have hr := B.returns
  have hts := atoms_spec (ws := (ws_ yX24_takes cX24_takes 4 (some .boolean))) B.pre
  have hts : ∀ w ∈ lw_all, w.before _ s = true := fun w h => hts w (List.mem_cons_of_mem _ h)
  have hown : s.vm.findClass RX24 = some m.cls := findClass_of_methodNamed B.named
  have hlocks := B.notSynchronized
  have hK := hG.K Z
  subst hsz
  have hS : va_S A s.heap s.heap [] := va_S.rf
  have hP : va_P (dC, dI) vwCl [] s.heap := fun k q h => by simp at h
  have hD : va_D A [] := ⟨fun i j p q h => by simp at h, fun k q h => by simp at h⟩
  have hl := lv_entry ([.ref ao, .int (nI i), .int (nI j), .int (nI g)]) (n := 4) (Nat.le_of_ble_eq_true rfl)
  rw [show entryFrame m args 4 = entryFrame m ([.ref ao, .int (nI i), .int (nI j), .int (nI g)] : List Value).toArray 4 from by rw [hav], lg_entry_eq]
  generalize (lg_sl ([.ref ao, .int (nI i), .int (nI j), .int (nI g)]) ++ List.replicate (4 - (lg_sl ([.ref ao, .int (nI i), .int (nI j), .int (nI g)])).length) Slot.unset).toArray = ls at hl ⊢
  have hl : lv_has ls 4 [(0, .ref ao), (1, .int (nI i)), (2, .int (nI j)), (3, .int (nI g))] := hl
  generalize hQe : vx_MQ below _ _ _ s _ _ _ = Q
  change W p l e ({ frames := 1, cells := 0, slots := 0, locals := 60 } : Room) s m args below meth c s.heap [] 0 0 Q (F0 m 0 ls [])
  refine lv_iload_n hx hb dX24_takes_0 rfl (lv_at hl 3 rfl) ?_
  refine lv_iload_n hx hb dX24_takes_1 rfl (lv_at hl 1 rfl) ?_
  refine lv_iload_n hx hb dX24_takes_2 rfl (lv_at hl 2 rfl) ?_
  refine lv_isub hx hb dX24_takes_3 ?_
  refine lv_icmp_ne (tgt := 11) hx hb dX24_takes_4 (by decide) (fun c_4 => ?_) (fun c_4 => ?_)
  · refine lv_iconst (v := nI 0) hx hb dX24_takes_11 (by decide) ?_
    subst hQe
    refine vx_ret ?_
    exact W.zret (v := nI 0) hx hb hr rfl (fun tz ht hW => ⟨⟨_, (), rfl, (by unfold takG; rw [if_neg (by decide), if_neg (by decide), if_neg (by decide), if_pos rfl, decide_eq_false (fun h => c_4 ((tk_l (g := g) (i := j) (j := i) (by omega) (by omega) (by omega)).mpr h))]; rfl), B1_at ht (hP.sub [] rfl) (hD.sub [] (by decide) rfl) trivial⟩, hS.F ht⟩) hS.2.2 dX24_takes_12
  · refine lv_iconst (v := nI 1) hx hb dX24_takes_7 (by decide) ?_
    refine lv_goto (tgt := 12) hx hb dX24_takes_8 (by decide) ?_
    subst hQe
    refine vx_ret ?_
    exact W.zret (v := nI 1) hx hb hr rfl (fun tz ht hW => ⟨⟨_, (), rfl, (by unfold takG; rw [if_neg (by decide), if_neg (by decide), if_neg (by decide), if_pos rfl, decide_eq_true ((tk_l (g := g) (i := j) (j := i) (by omega) (by omega) (by omega)).mp c_4)]; rfl), B1_at ht (hP.sub [] rfl) (hD.sub [] (by decide) rfl) trivial⟩, hS.F ht⟩) hS.2.2 dX24_takes_12
set_option maxHeartbeats 4000000 in
theorem xp4 {l : Launch} {dC : Nat → ClassId} {dI : Nat → Nat → Nat} {dA : Nat → ClassId} {s0 : State} {b0 : Addr} (Z : Z0 l dC dI dA s0 b0) (A : Nat → Prop) (sz : Nat) (hA : ∀ q : Nat, sz ≤ q → A q) (ao i j g : Nat) (hi : i < 64) (hj : j < 64) (hg9 : g < 64) : vx_Met l yX25_takes (ws_ yX25_takes cX25_takes 4 (some .boolean)) ({ frames := 1, cells := 0, slots := 0, locals := 60 } : Room) (gP [.ref ao, .int (nI i), .int (nI j), .int (nI g)] s0 A (fun H => H.size = sz)) (va_Qi (S := Unit) (fun r _ => r = bI (takG 6 i j g)) (B1 (dC, dI) A (fun _ => []) (fun _ _ => True)) A) (vx_X (S := Unit) (fun _ => False) (fun _ _ _ _ => True) A) 0 0 A := by
  refine vx_ofW (cc := cX25_takes) (maxL := 4) (ret := (some .boolean)) (by decide) rfl ?_
  intro p e s m args below meth c s₁ B hml hnoH hv
  obtain ⟨hav, hG, hsz⟩ := hv
  have hx := B.exec
  have hb := B.bytes
  have hr := B.returns
  have hts := atoms_spec (ws := (ws_ yX25_takes cX25_takes 4 (some .boolean))) B.pre
  have hts : ∀ w ∈ lw_all, w.before _ s = true := fun w h => hts w (List.mem_cons_of_mem _ h)
  have hown : s.vm.findClass RX25 = some m.cls := findClass_of_methodNamed B.named
  have hlocks := B.notSynchronized
  have hK := hG.K Z
  subst hsz
  have hS : va_S A s.heap s.heap [] := va_S.rf
  have hP : va_P (dC, dI) vwCl [] s.heap := fun k q h => by simp at h
  have hD : va_D A [] := ⟨fun i j p q h => by simp at h, fun k q h => by simp at h⟩
  have hl := lv_entry ([.ref ao, .int (nI i), .int (nI j), .int (nI g)]) (n := 4) (Nat.le_of_ble_eq_true rfl)
  rw [show entryFrame m args 4 = entryFrame m ([.ref ao, .int (nI i), .int (nI j), .int (nI g)] : List Value).toArray 4 from by rw [hav], lg_entry_eq]
  generalize (lg_sl ([.ref ao, .int (nI i), .int (nI j), .int (nI g)]) ++ List.replicate (4 - (lg_sl ([.ref ao, .int (nI i), .int (nI j), .int (nI g)])).length) Slot.unset).toArray = ls at hl ⊢
  have hl : lv_has ls 4 [(0, .ref ao), (1, .int (nI i)), (2, .int (nI j)), (3, .int (nI g))] := hl
  generalize hQe : vx_MQ below _ _ _ s _ _ _ = Q
  change W p l e ({ frames := 1, cells := 0, slots := 0, locals := 60 } : Room) s m args below meth c s.heap [] 0 0 Q (F0 m 0 ls [])
  refine lv_iload_n hx hb dX25_takes_0 rfl (lv_at hl 3 rfl) ?_
  refine lv_if_ne (tgt := 8) hx hb dX25_takes_1 (by decide) (fun c_1 => ?_) (fun c_1 => ?_)
  · have c_1 : ¬ g = 0 := fun h => c_1 ((nI_eq (a := g) (b := 0) (by omega) (by omega)).mpr h)
    refine lv_iconst (v := nI 0) hx hb dX25_takes_8 (by decide) ?_
    subst hQe
    refine vx_ret ?_
    exact W.zret (v := nI 0) hx hb hr rfl (fun tz ht hW => ⟨⟨_, (), rfl, (by unfold takG; rw [if_neg (by decide), if_neg (by decide), if_neg (by decide), if_neg (by decide), decide_eq_false c_1]; rfl), B1_at ht (hP.sub [] rfl) (hD.sub [] (by decide) rfl) trivial⟩, hS.F ht⟩) hS.2.2 dX25_takes_9
  · have c_1 : g = 0 := (nI_eq (a := g) (b := 0) (by omega) (by omega)).mp c_1
    refine lv_iconst (v := nI 1) hx hb dX25_takes_4 (by decide) ?_
    refine lv_goto (tgt := 9) hx hb dX25_takes_5 (by decide) ?_
    subst hQe
    refine vx_ret ?_
    exact W.zret (v := nI 1) hx hb hr rfl (fun tz ht hW => ⟨⟨_, (), rfl, (by unfold takG; rw [if_neg (by decide), if_neg (by decide), if_neg (by decide), if_neg (by decide), decide_eq_true c_1]; rfl), B1_at ht (hP.sub [] rfl) (hD.sub [] (by decide) rfl) trivial⟩, hS.F ht⟩) hS.2.2 dX25_takes_9
theorem takes_run {p : Program} {l : Launch} {e : Env} {R : Room} {s : State} {m : MethodId} {args : Array Value} {below : List Frame} {meth : Method} {c : Code} {H : Heap} {locs : List Loc} {cells slots : Nat} {dC : Nat → ClassId} {dI : Nat → Nat → Nat} {dA : Nat → ClassId} {s0 : State} {b0 : Addr} (Z : Z0 l dC dI dA s0 b0) {σ : Nat → Nat} (Y : SS (dC, dI) dA σ s0) {A : Nat → Prop} (hG : Gd s0 A s s.heap) (hS : va_S A s.heap H locs) {index nL pc : Nat} {own : String} {cc : ByteArray} (S : CallFix p m c cc nL s args lw_all own) {k i j g : Nat} (hk : k < 5) (hi : i < 64) (hj : j < 64) (hg9 : g < 64) (hlink : Cond.methodLink own index ⟨"BladeAlgebra$Product", "takes", "(III)Z"⟩ ∈ lw_all) {ls : Array Slot} {rest : List Value} (hsize : ls.size = nL) (hW : (rest.map fun v => v.category).sum ≤ 8) (hdg : decode cc pc = .ok (.invokevirtual index, 3)) (hR : 1 + 1 ≤ R.frames ∧ 8 + (4 + 11) + 60 ≤ R.locals) (hf : cells + 0 ≤ R.cells ∧ slots + 0 ≤ R.slots) : vx_Run p l e R s m args below meth c H locs cells slots 0 0 (F0 m pc ls (.int (nI g) :: .int (nI j) :: .int (nI i) :: .ref (σ (10 + k)) :: rest)) rest (va_Qi (S := Unit) (fun r _ => r = bI (takG (k + 2) i j g)) (B1 (dC, dI) (va_A [] H.size) (fun _ => []) (fun _ _ => True)) (va_A [] H.size) (Value.ref (σ (10 + k)) :: [.int (nI i), .int (nI j), .int (nI g)]).toArray) (vx_X (S := Unit) (fun _ => False) (fun _ _ _ _ => True) (va_A [] H.size)) (va_A [] H.size) := by
  match k, hk with
  | 0, _ => exact vx_runA (x := ⟨"BladeAlgebra$Product", "takes", "(III)Z"⟩) (owner := "BladeAlgebra$Product") (C := "BladeAlgebra$Product$1") (As := [.int (nI i), .int (nI j), .int (nI g)]) (n := 3) S (xp0 Z (va_A [] H.size) H.size (fun q h => Or.inr h) (σ (10 + 0)) i j g hi hj hg9) ⟨rfl, rfl⟩ hR q666 hlink q663 (va_Nw.warmD hG.1 (va_Nw.of rfl (Z.2.1 _ q662))) q664 q665 (by decide +kernel) (gP_V (Gd.O hG (SS.pr Y 0 (by decide)).2 hS) hG hS (fun q hq h => absurd hq (Nat.not_lt.mpr (va_A0 h))) rfl) rfl rfl hsize rfl (lv_room hW) hdg hf
  | 1, _ => exact vx_runA (x := ⟨"BladeAlgebra$Product", "takes", "(III)Z"⟩) (owner := "BladeAlgebra$Product") (C := "BladeAlgebra$Product$2") (As := [.int (nI i), .int (nI j), .int (nI g)]) (n := 3) S (xp1 Z (va_A [] H.size) H.size (fun q h => Or.inr h) (σ (10 + 1)) i j g hi hj hg9) ⟨rfl, rfl⟩ hR q669 hlink q663 (va_Nw.warmD hG.1 (va_Nw.of rfl (Z.2.1 _ q662))) q667 q668 (by decide +kernel) (gP_V (Gd.O hG (SS.pr Y 1 (by decide)).2 hS) hG hS (fun q hq h => absurd hq (Nat.not_lt.mpr (va_A0 h))) rfl) rfl rfl hsize rfl (lv_room hW) hdg hf
  | 2, _ => exact vx_runA (x := ⟨"BladeAlgebra$Product", "takes", "(III)Z"⟩) (owner := "BladeAlgebra$Product") (C := "BladeAlgebra$Product$3") (As := [.int (nI i), .int (nI j), .int (nI g)]) (n := 3) S (xp2 Z (va_A [] H.size) H.size (fun q h => Or.inr h) (σ (10 + 2)) i j g hi hj hg9) ⟨rfl, rfl⟩ hR q672 hlink q663 (va_Nw.warmD hG.1 (va_Nw.of rfl (Z.2.1 _ q662))) q670 q671 (by decide +kernel) (gP_V (Gd.O hG (SS.pr Y 2 (by decide)).2 hS) hG hS (fun q hq h => absurd hq (Nat.not_lt.mpr (va_A0 h))) rfl) rfl rfl hsize rfl (lv_room hW) hdg hf
  | 3, _ => exact vx_runA (x := ⟨"BladeAlgebra$Product", "takes", "(III)Z"⟩) (owner := "BladeAlgebra$Product") (C := "BladeAlgebra$Product$4") (As := [.int (nI i), .int (nI j), .int (nI g)]) (n := 3) S (xp3 Z (va_A [] H.size) H.size (fun q h => Or.inr h) (σ (10 + 3)) i j g hi hj hg9) ⟨rfl, rfl⟩ hR q675 hlink q663 (va_Nw.warmD hG.1 (va_Nw.of rfl (Z.2.1 _ q662))) q673 q674 (by decide +kernel) (gP_V (Gd.O hG (SS.pr Y 3 (by decide)).2 hS) hG hS (fun q hq h => absurd hq (Nat.not_lt.mpr (va_A0 h))) rfl) rfl rfl hsize rfl (lv_room hW) hdg hf
  | 4, _ => exact vx_runA (x := ⟨"BladeAlgebra$Product", "takes", "(III)Z"⟩) (owner := "BladeAlgebra$Product") (C := "BladeAlgebra$Product$5") (As := [.int (nI i), .int (nI j), .int (nI g)]) (n := 3) S (xp4 Z (va_A [] H.size) H.size (fun q h => Or.inr h) (σ (10 + 4)) i j g hi hj hg9) ⟨rfl, rfl⟩ hR q678 hlink q663 (va_Nw.warmD hG.1 (va_Nw.of rfl (Z.2.1 _ q662))) q676 q677 (by decide +kernel) (gP_V (Gd.O hG (SS.pr Y 4 (by decide)).2 hS) hG hS (fun q hq h => absurd hq (Nat.not_lt.mpr (va_A0 h))) rfl) rfl rfl hsize rfl (lv_room hW) hdg hf
set_option maxHeartbeats 4000000 in
theorem x5_product {l : Launch} {dC : Nat → ClassId} {dI : Nat → Nat → Nat} {dA : Nat → ClassId} {s0 : State} {b0 : Addr} (Z : Z0 l dC dI dA s0 b0) (A : Nat → Prop) (sz : Nat) (hA : ∀ q : Nat, sz ≤ q → A q) {σ : Nat → Nat} (Y : SS (dC, dI) dA σ s0) (ga sg : Nat) (sr : Nat → Nat) (p0 q0 r0 : Nat) (ma mr : Nat) (M : MV) (mb nr : Nat) (N : MV) (k9 : Nat) (hk9 : k9 < 5) (sM : MSm M) (sN : MSm N) : vx_Met l yX5_product_2 (ws_ yX5_product_2 cX5_product_2 7 (some (.object "BladeAlgebra$Multi"))) ({ frames := 6, cells := 2, slots := 38, locals := 360 } : Room) (gP [.ref ga, .ref ma, .ref mb, .ref (σ (10 + k9))] s0 A (fun H => H.size = sz ∧ RO A (dC, dI) [(ma, .inr (0, [.ref mr, .long (M 0)])), (mr, .inl (dA 1, 32, .inr (.inl (fun j => M (j + 1)))))] H ∧ RO A (dC, dI) [(mb, .inr (0, [.ref nr, .long (N 0)])), (nr, .inl (dA 1, 32, .inr (.inl (fun j => N (j + 1)))))] H ∧ AG A (dC, dI) dA ga sg sr p0 q0 r0 H)) (va_Qr (S := Nat × MV) (fun u => mulS (k9 + 2) p0 q0 r0 M N = some u.2) (B1r (dC, dI) A (fun u q => MA dA q u.1 u.2) (fun _ _ _ => True)) A) (vx_X (S := Unit) (fun _ => mulS (k9 + 2) p0 q0 r0 M N = none) (fun _ E _ _ => E = "BladeAlgebra$Unfit") A) 2 38 A := by
  refine vx_ofW (cc := cX5_product_2) (maxL := 7) (ret := (some (.object "BladeAlgebra$Multi"))) (by decide) rfl ?_
  intro p e s m args below meth c s₁ B hml hnoH hv
  obtain ⟨hav, hG, hsz, hR0, hR1, hAG⟩ := hv
  have hx := B.exec
  have hb := B.bytes
  have hr := B.returns
  have hts := atoms_spec (ws := (ws_ yX5_product_2 cX5_product_2 7 (some (.object "BladeAlgebra$Multi")))) B.pre
  have hts : ∀ w ∈ lw_all, w.before _ s = true := fun w h => hts w (List.mem_cons_of_mem _ h)
  have hown : s.vm.findClass RX5 = some m.cls := findClass_of_methodNamed B.named
  have hlocks := B.notSynchronized
  have hK := hG.K Z
  subst hsz
  have hS : va_S A s.heap s.heap [] := va_S.rf
  have hP : va_P (dC, dI) vwCl [] s.heap := fun k q h => by simp at h
  have hD : va_D A [] := ⟨fun i j p q h => by simp at h, fun k q h => by simp at h⟩
  have hl := lv_entry ([.ref ga, .ref ma, .ref mb, .ref (σ (10 + k9))]) (n := 7) (Nat.le_of_ble_eq_true rfl)
  rw [show entryFrame m args 7 = entryFrame m ([.ref ga, .ref ma, .ref mb, .ref (σ (10 + k9))] : List Value).toArray 7 from by rw [hav], lg_entry_eq]
  generalize (lg_sl ([.ref ga, .ref ma, .ref mb, .ref (σ (10 + k9))]) ++ List.replicate (7 - (lg_sl ([.ref ga, .ref ma, .ref mb, .ref (σ (10 + k9))])).length) Slot.unset).toArray = ls at hl ⊢
  have hl : lv_has ls 7 [(0, .ref ga), (1, .ref ma), (2, .ref mb), (3, .ref (σ (10 + k9)))] := hl
  generalize hQe : vx_MQ below _ _ _ s _ _ _ = Q
  change W p l e ({ frames := 6, cells := 2, slots := 38, locals := 360 } : Room) s m args below meth c s.heap [] 0 0 Q (F0 m 0 ls [])
  have hn := hAG.1
  have h5 := pow5 hn
  have hR2 := hAG.2.1
  obtain ⟨gr, Yg⟩ : ∃ g, SG (dC, dI) dA g s0 := ⟨_, SS.gr Y⟩
  have hR3 := hG.RO Yg.2
  refine lv_bipush (v := nI 32) hx hb dX5_product_2_0 (by decide) ?_
  refine a_newa (D := (dC, dI)) (atype := .long) (N' := 32) (a0 := (32, .inr (.inl (fun _ => 0)))) hx hb (hts _ q542) rfl hK hP hD hS hA 1 rfl (fun _ => ra_long) (fun _ => rfl) (by decide) (by decide) (by decide) (by first | decide | omega) (by first | decide | omega) dX5_product_2_2 (fun na_1 H locs hP hD hS => ?_)
  have hP : va_P (dC, dI) vwCl [(na_1, .inl (dA 1, 32, .inr (.inl (fun _ => 0))))] H := hP
  have hD : va_D A [(na_1, .inl (dA 1, 32, .inr (.inl (fun _ => 0))))] := hD
  refine lv_astore (lv' := [(4, .ref na_1), (0, .ref ga), (1, .ref ma), (2, .ref mb), (3, .ref (σ (10 + k9)))]) hx hb dX5_product_2_4 hl (by decide) rfl (fun ls hl => ?_)
  refine lv_iconst (v := nI 0) hx hb dX5_product_2_6 (by decide) ?_
  refine lv_istore (lv' := [(5, .int (nI 0)), (4, .ref na_1), (0, .ref ga), (1, .ref ma), (2, .ref mb), (3, .ref (σ (10 + k9)))]) hx hb dX5_product_2_7 hl (by decide) rfl (fun ls hl => ?_)
  have e9 : (fun _ => 0 : Nat → Int64) = (mulA (k9 + 2) p0 q0 r0 M N 0) := rfl
  rw [e9] at hP hD; clear e9
  have loop_2 : ∀ (n9_2 : Nat) (a : Nat) (H : Heap) (locs : List Loc) (ls : Array Slot), 33 - a < n9_2 → (a ≤ 2 ^ (p0 + q0 + r0)) → va_P (dC, dI) vwCl [(na_1, .inl (dA 1, 32, .inr (.inl (mulA (k9 + 2) p0 q0 r0 M N a))))] H → va_D A [(na_1, .inl (dA 1, 32, .inr (.inl (mulA (k9 + 2) p0 q0 r0 M N a))))] → va_S A s.heap H locs → lv_has ls 7 [(0, .ref ga), (1, .ref ma), (2, .ref mb), (3, .ref (σ (10 + k9))), (4, .ref na_1), (5, .int (nI a))] → W p l e ({ frames := 6, cells := 2, slots := 38, locals := 360 } : Room) s m args below meth c H locs (0 + 1) (0 + 32) Q (F0 m 9 ls []) := by
    intro n9_2
    induction n9_2 with
    | zero => intro a H locs ls hm_2; exact absurd hm_2 (Nat.not_lt_zero _)
    | succ n9_2 ih_2 =>
      intro a H locs ls hm_2 ha8 hP hD hS hl
      refine lv_iload hx hb dX5_product_2_9 (lv_at hl 5 rfl) ?_
      refine lv_aload_n hx hb dX5_product_2_11 rfl (lv_at hl 0 rfl) ?_
      refine va_get (D := (dC, dI)) (ci := 1) (v := .int (nI (2 ^ (p0 + q0 + r0) - 1))) (C := RX5) (T := TX5) (N := 6) hx hb hts in_X5 hown hK (hR2.up hS) 0 rfl rfl 4 (by decide) (hts _ q211) (fun _ h9 => h9) rfl dX5_product_2_12 ?_
      refine lv_icmp_gt (tgt := 123) hx hb dX5_product_2_15 (by decide) (fun c_15 => ?_) (fun c_15 => ?_)
      · have c_15 : (2 ^ (p0 + q0 + r0) - 1) < a := (nI_ltI (a := (2 ^ (p0 + q0 + r0) - 1)) (b := a) (by omega) (by omega)).mp c_15
        obtain rfl : a = 2 ^ (p0 + q0 + r0) := by omega
        refine lv_aload hx hb dX5_product_2_123 (lv_at hl 4 rfl) ?_
        refine lv_aload_n hx hb dX5_product_2_125 rfl (lv_at hl 1 rfl) ?_
        refine va_getN (D := (dC, dI)) (ci := 0) (v := .long (M 0)) (C := RX6) (T := TX6) (N := 2) hx hb hts in_X6 hown hK (hR0.up hS) 0 rfl rfl 1 (by decide) (((va_Nw.warmF hG.1 (va_Nw.of rfl (Z.2.1 _ q555)))).use rfl) (fun _ h9 => h9) rfl dX5_product_2_126 ?_
        refine lv_aload_n hx hb dX5_product_2_129 rfl (lv_at hl 2 rfl) ?_
        refine va_getN (D := (dC, dI)) (ci := 0) (v := .long (N 0)) (C := RX6) (T := TX6) (N := 2) hx hb hts in_X6 hown hK (hR1.up hS) 0 rfl rfl 1 (by decide) (((va_Nw.warmF hG.1 (va_Nw.of rfl (Z.2.1 _ q555)))).use rfl) (fun _ h9 => h9) rfl dX5_product_2_130 ?_
        refine lv_lmul hx hb dX5_product_2_133 ?_
        have hF9 := va_free (wc := [(na_1, .inl (dA 1, 32, .inr (.inl (mulA (k9 + 2) p0 q0 r0 M N (2 ^ (p0 + q0 + r0))))))]) hD hS (fun q h => hA q h) [0] rfl
        refine x_r (wc := [(na_1, .inl (dA 1, 32, .inr (.inl (mulA (k9 + 2) p0 q0 r0 M N (2 ^ (p0 + q0 + r0))))))]) (wr := []) (vx_runS (As := [.ref na_1, .long ((M 0) * (N 0))]) (rest := []) ⟨hx, hb, hml, hown, hts⟩ (x6_fit Z (va_A [(na_1, .inl (dA 1, 32, .inr (.inl (mulA (k9 + 2) p0 q0 r0 M N (2 ^ (p0 + q0 + r0))))))] H.size) H.size (fun q h => Or.inr h) Y na_1 ((M 0) * (N 0)) (mulA (k9 + 2) p0 q0 r0 M N (2 ^ (p0 + q0 + r0))) (aN_pos (und_bd sM sN).1) (nm_p (und_bd sM sN).1) (fun j _ => mulR_nm sM sN hn j)) (va_cwS 2 hts (lw_S q679 q511 q102 q512) rfl rfl rfl (by decide +kernel) ⟨Nat.le_of_ble_eq_true rfl, Nat.le_of_ble_eq_true rfl⟩) (gP_S hG hS (fun q _ h => hF9 q h) ⟨rfl, (hP.sub (ws' := [(na_1, .inl (dA 1, 32, .inr (.inl (mulA (k9 + 2) p0 q0 r0 M N (2 ^ (p0 + q0 + r0))))))]) [0] rfl), (hD.sub (ws' := [(na_1, .inl (dA 1, 32, .inr (.inl (mulA (k9 + 2) p0 q0 r0 M N (2 ^ (p0 + q0 + r0))))))]) [0] (by decide) rfl).self⟩) rfl rfl hl.1 rfl (lv_room (Nat.le_of_ble_eq_true rfl)) dX5_product_2_134 ⟨by first | decide | omega | (show _ ≤ (2 : Nat); omega), by first | decide | omega | (show _ ≤ (38 : Nat); omega)⟩) hP hD hS hA [0] [] rfl rfl (by decide) (by decide) (fun E ce q9 u9 t9 H locs ht9 hp9 hb9 hz hP hS h1 h2 h3 => ?_) (fun u9 ra9 H locs hq hX hz hk hP hD hS => ?_)
        · have hD := hD.sub (ws' := []) [] (by decide) rfl
          have hP : va_P (dC, dI) vwCl [] H := hP
          have hD : va_D A [] := hD
          subst hb9
          subst hQe
          exact vx_out (fun x h => (hnoH x h).elim) hlocks h1 h2 h3 (fun t10 e10 _ => ⟨(), ((fitG_pos (und_bd sM sN).1).symm.trans hp9), rfl, hS.F e10⟩) hS.2.2 (by first | decide | omega) (by first | decide | omega)
        obtain ⟨ra_3, rfl⟩ : ∃ z, z = ra9 := ⟨_, rfl⟩
        have e_3 := hq
        obtain ⟨M_3, rfl⟩ : ∃ z, z = u9 := ⟨_, rfl⟩
        have sm_3 : MSm M_3 := fitG_sm (aN_pos (und_bd sM sN).1) (nm_p (und_bd sM sN).1) e_3
        have hP : va_P (dC, dI) vwCl [(ra_3, .inr (0, [.ref na_1, .long (M_3 0)])), (na_1, .inl (dA 1, 32, .inr (.inl (fun j => M_3 (j + 1)))))] H := hP
        have hD : va_D A [(ra_3, .inr (0, [.ref na_1, .long (M_3 0)])), (na_1, .inl (dA 1, 32, .inr (.inl (fun j => M_3 (j + 1)))))] := hD
        subst hQe
        refine vx_ret ?_
        refine W.widen (k := 2) (n := 38) (by first | decide | omega) (by first | decide | omega) ?_
        exact W.aret (v := .ref ra_3) hx hb hr (Or.inl ⟨_, rfl⟩) (Or.inr ⟨_, rfl⟩) (fun tz ht hW => ⟨⟨(na_1, M_3), ra_3, rfl, ((fitG_pos (und_bd sM sN).1).symm.trans e_3), B1r_at ht (hP.sub [0, 1] rfl) (hD.sub [0, 1] (by decide) rfl) trivial⟩, hS.F ht⟩) hS.2.2 dX5_product_2_137
      · have c_15 : ¬ (2 ^ (p0 + q0 + r0) - 1) < a := fun h => c_15 ((nI_ltI (a := (2 ^ (p0 + q0 + r0) - 1)) (b := a) (by omega) (by omega)).mpr h)
        have ha9 : a < 32 := by omega
        have hpa := popc_le5 a ha9
        refine lv_aload_n hx hb dX5_product_2_18 rfl (lv_at hl 1 rfl) ?_
        refine va_getN (D := (dC, dI)) (ci := 0) (v := .ref mr) (C := RX6) (T := TX6) (N := 2) hx hb hts in_X6 hown hK (hR0.up hS) 0 rfl rfl 0 (by decide) (((va_Nw.warmF hG.1 (va_Nw.of rfl (Z.2.1 _ q551)))).use rfl) (fun _ h9 => h9) rfl dX5_product_2_19 ?_
        refine lv_iload hx hb dX5_product_2_22 (lv_at hl 5 rfl) ?_
        refine a_lald hx hb hK (hR0.up hS) 1 1 rfl rfl (by omega) (by omega) dX5_product_2_24 ?_
        refine lv_lconst (v := 0) hx hb dX5_product_2_25 rfl ?_
        refine W.lcmp hx hb dX5_product_2_26 ?_
        refine lv_if_ne (tgt := 33) hx hb dX5_product_2_27 (by decide) (fun c_27 => ?_) (fun c_27 => ?_)
        · have c_27 : ¬ ((fun j => M (j + 1)) a) = 0 := fun h => c_27 ((lg_cmp_eq _ _).mpr h)
          refine lv_iconst (v := nI 0) hx hb dX5_product_2_33 (by decide) ?_
          refine lv_istore (lv' := [(6, .int (nI 0)), (0, .ref ga), (1, .ref ma), (2, .ref mb), (3, .ref (σ (10 + k9))), (4, .ref na_1), (5, .int (nI a))]) hx hb dX5_product_2_34 hl (by decide) rfl (fun ls hl => ?_)
          have e9 : (mulA (k9 + 2) p0 q0 r0 M N a : Nat → Int64) = (mulB (k9 + 2) p0 q0 r0 M N a 0) := (mulB_0 _ _ _ _ _ _ _).symm
          rw [e9] at hP hD; clear e9
          have loop_4 : ∀ (n9_4 : Nat) (b : Nat) (H : Heap) (locs : List Loc) (ls : Array Slot), 33 - b < n9_4 → (b ≤ 2 ^ (p0 + q0 + r0)) → va_P (dC, dI) vwCl [(na_1, .inl (dA 1, 32, .inr (.inl (mulB (k9 + 2) p0 q0 r0 M N a b))))] H → va_D A [(na_1, .inl (dA 1, 32, .inr (.inl (mulB (k9 + 2) p0 q0 r0 M N a b))))] → va_S A s.heap H locs → lv_has ls 7 [(0, .ref ga), (1, .ref ma), (2, .ref mb), (3, .ref (σ (10 + k9))), (4, .ref na_1), (5, .int (nI a)), (6, .int (nI b))] → W p l e ({ frames := 6, cells := 2, slots := 38, locals := 360 } : Room) s m args below meth c H locs (0 + 1) (0 + 32) Q (F0 m 36 ls []) := by
            intro n9_4
            induction n9_4 with
            | zero => intro b H locs ls hm_4; exact absurd hm_4 (Nat.not_lt_zero _)
            | succ n9_4 ih_4 =>
              intro b H locs ls hm_4 hb8 hP hD hS hl
              refine lv_iload hx hb dX5_product_2_36 (lv_at hl 6 rfl) ?_
              refine lv_aload_n hx hb dX5_product_2_38 rfl (lv_at hl 0 rfl) ?_
              refine va_get (D := (dC, dI)) (ci := 1) (v := .int (nI (2 ^ (p0 + q0 + r0) - 1))) (C := RX5) (T := TX5) (N := 6) hx hb hts in_X5 hown hK (hR2.up hS) 0 rfl rfl 4 (by decide) (hts _ q211) (fun _ h9 => h9) rfl dX5_product_2_39 ?_
              refine lv_icmp_gt (tgt := 117) hx hb dX5_product_2_42 (by decide) (fun c_42 => ?_) (fun c_42 => ?_)
              · have c_42 : (2 ^ (p0 + q0 + r0) - 1) < b := (nI_ltI (a := (2 ^ (p0 + q0 + r0) - 1)) (b := b) (by omega) (by omega)).mp c_42
                obtain rfl : b = 2 ^ (p0 + q0 + r0) := by omega
                have e9 : (mulB (k9 + 2) p0 q0 r0 M N a (2 ^ (p0 + q0 + r0)) : Nat → Int64) = (mulA (k9 + 2) p0 q0 r0 M N (a + 1)) := mulB_W _ _ _ _ _ _ _
                rw [e9] at hP hD; clear e9
                refine lv_iinc (v := nI (a + 1)) (lv' := [(5, .int (nI (a + 1))), (0, .ref ga), (1, .ref ma), (2, .ref mb), (3, .ref (σ (10 + k9))), (4, .ref na_1), (6, .int (nI (2 ^ (p0 + q0 + r0))))]) hx hb dX5_product_2_117 hl (k := 5) rfl (by exact nI_add _ 1) (by decide) rfl (fun ls hl => ?_)
                refine lv_goto (tgt := 9) hx hb dX5_product_2_120 (by decide) ?_
                exact ih_2 (a + 1) H locs ls (by omega) (by omega) (hP.sub [0] rfl) (hD.sub [0] (by decide) rfl) hS (lv_sub hl [1, 2, 3, 4, 5, 0] rfl)
              · have c_42 : ¬ (2 ^ (p0 + q0 + r0) - 1) < b := fun h => c_42 ((nI_ltI (a := (2 ^ (p0 + q0 + r0) - 1)) (b := b) (by omega) (by omega)).mpr h)
                have hb9 : b < 32 := by omega
                have hpb := popc_le5 b hb9
                have hpc := popc_le5 (a ^^^ b) (xor32 ha9 hb9)
                refine lv_aload_n hx hb dX5_product_2_45 rfl (lv_at hl 3 rfl) ?_
                refine va_getsN (v := .ref gr) hx hb (hG.Z Z Yg.1) hS hown (((va_Nw.warmF hG.1 (va_Nw.of rfl (Z.2.1 _ q198)))).use rfl) (fun _ h9 => h9) dX5_product_2_46 ?_
                refine lv_iload hx hb dX5_product_2_49 (lv_at hl 5 rfl) ?_
                refine a_iald hx hb hK (hR3.up hS) 0 0 rfl rfl (by omega) (by omega) dX5_product_2_51 ?_
                refine e_i (y := nI (popc a)) (rfl) ?_
                refine va_getsN (v := .ref gr) hx hb (hG.Z Z Yg.1) hS hown (((va_Nw.warmF hG.1 (va_Nw.of rfl (Z.2.1 _ q198)))).use rfl) (fun _ h9 => h9) dX5_product_2_52 ?_
                refine lv_iload hx hb dX5_product_2_55 (lv_at hl 6 rfl) ?_
                refine a_iald hx hb hK (hR3.up hS) 0 0 rfl rfl (by omega) (by omega) dX5_product_2_57 ?_
                refine e_i (y := nI (popc b)) (rfl) ?_
                refine va_getsN (v := .ref gr) hx hb (hG.Z Z Yg.1) hS hown (((va_Nw.warmF hG.1 (va_Nw.of rfl (Z.2.1 _ q198)))).use rfl) (fun _ h9 => h9) dX5_product_2_58 ?_
                refine lv_iload hx hb dX5_product_2_61 (lv_at hl 5 rfl) ?_
                refine lv_iload hx hb dX5_product_2_63 (lv_at hl 6 rfl) ?_
                refine lv_ixor hx hb dX5_product_2_65 ?_
                refine e_i (y := nI (a ^^^ b)) (n_xor _ _) ?_
                refine a_iald hx hb hK (hR3.up hS) 0 0 rfl rfl (xor32 ha9 hb9) (by omega) dX5_product_2_66 ?_
                refine e_i (y := nI (popc (a ^^^ b))) (rfl) ?_
                refine x_i (wc := []) (wr := [(na_1, .inl (dA 1, 32, .inr (.inl (mulB (k9 + 2) p0 q0 r0 M N a b))))]) (takes_run Z Y hG hS ⟨hx, hb, hml, hown, hts⟩ (k := k9) hk9 (by omega) (by omega) (by omega) q661 hl.1 (Nat.le_of_ble_eq_true rfl) dX5_product_2_67 ⟨Nat.le_of_ble_eq_true rfl, Nat.le_of_ble_eq_true rfl⟩ ⟨by first | decide | omega | (show _ ≤ (2 : Nat); omega), by first | decide | omega | (show _ ≤ (38 : Nat); omega)⟩) hP hD hS hA [] [0] rfl rfl (by decide) (by decide) (fun E ce q9 u9 t9 H locs ht9 hp9 hb9 hz hP hS h1 h2 h3 => hp9.elim) (fun r9 u9 H locs hq hX hz hk9_ hP hD hS => ?_)
                subst hq
                have hP : va_P (dC, dI) vwCl [(na_1, .inl (dA 1, 32, .inr (.inl (mulB (k9 + 2) p0 q0 r0 M N a b))))] H := hP
                have hD : va_D A [(na_1, .inl (dA 1, 32, .inr (.inl (mulB (k9 + 2) p0 q0 r0 M N a b))))] := hD
                refine lv_if_eq (tgt := 111) hx hb dX5_product_2_70 (by decide) (fun c_70 => ?_) (fun c_70 => ?_)
                · have e9 : (mulB (k9 + 2) p0 q0 r0 M N a b : Nat → Int64) = (mulB (k9 + 2) p0 q0 r0 M N a (b + 1)) := mulB_n (mt_t (bI_0 c_70))
                  rw [e9] at hP hD; clear e9
                  refine lv_iinc (v := nI (b + 1)) (lv' := [(6, .int (nI (b + 1))), (0, .ref ga), (1, .ref ma), (2, .ref mb), (3, .ref (σ (10 + k9))), (4, .ref na_1), (5, .int (nI a))]) hx hb dX5_product_2_111 hl (k := 6) rfl (by exact nI_add _ 1) (by decide) rfl (fun ls hl => ?_)
                  refine lv_goto (tgt := 36) hx hb dX5_product_2_114 (by decide) ?_
                  exact ih_4 (b + 1) H locs ls (by omega) (by omega) (hP.sub [0] rfl) (hD.sub [0] (by decide) rfl) hS (lv_sub hl [1, 2, 3, 4, 5, 6, 0] rfl)
                · refine lv_aload hx hb dX5_product_2_73 (lv_at hl 4 rfl) ?_
                  refine lv_iload hx hb dX5_product_2_75 (lv_at hl 5 rfl) ?_
                  refine lv_iload hx hb dX5_product_2_77 (lv_at hl 6 rfl) ?_
                  refine lv_ixor hx hb dX5_product_2_79 ?_
                  refine e_i (y := nI (a ^^^ b)) (n_xor _ _) ?_
                  refine lv_dup2_11 hx hb dX5_product_2_80 rfl rfl ?_
                  refine a_lald hx hb hK hP 0 1 rfl rfl (xor32 ha9 hb9) (by omega) dX5_product_2_81 ?_
                  refine lv_aload_n hx hb dX5_product_2_82 rfl (lv_at hl 0 rfl) ?_
                  refine va_get (D := (dC, dI)) (ci := 1) (v := .ref sg) (C := RX5) (T := TX5) (N := 6) hx hb hts in_X5 hown hK (hR2.up hS) 0 rfl rfl 5 (by decide) (hts _ q213) (fun _ h9 => h9) rfl dX5_product_2_83 ?_
                  refine lv_iload hx hb dX5_product_2_86 (lv_at hl 5 rfl) ?_
                  refine a_aldr hx hb hK (hR2.up hS) 1 9 rfl rfl (by omega) (by decide) dX5_product_2_88 ?_
                  refine e_v (y := .ref (sr a)) (rfl) ?_
                  have hR4 := hAG.2.2 a ha9
                  refine lv_iload hx hb dX5_product_2_89 (lv_at hl 6 rfl) ?_
                  refine a_iald hx hb hK (hR4.up hS) 0 0 rfl rfl (by omega) (by omega) dX5_product_2_91 ?_
                  refine e_i (y := sgS p0 q0 r0 a b) (if_pos ⟨by omega, by omega⟩) ?_
                  refine lv_i2l (v := (sgS p0 q0 r0 a b).toInt64) hx hb dX5_product_2_92 rfl ?_
                  refine lv_aload_n hx hb dX5_product_2_93 rfl (lv_at hl 1 rfl) ?_
                  refine va_getN (D := (dC, dI)) (ci := 0) (v := .ref mr) (C := RX6) (T := TX6) (N := 2) hx hb hts in_X6 hown hK (hR0.up hS) 0 rfl rfl 0 (by decide) (((va_Nw.warmF hG.1 (va_Nw.of rfl (Z.2.1 _ q551)))).use rfl) (fun _ h9 => h9) rfl dX5_product_2_94 ?_
                  refine lv_iload hx hb dX5_product_2_97 (lv_at hl 5 rfl) ?_
                  refine a_lald hx hb hK (hR0.up hS) 1 1 rfl rfl (by omega) (by omega) dX5_product_2_99 ?_
                  refine lv_lmul hx hb dX5_product_2_100 ?_
                  refine lv_aload_n hx hb dX5_product_2_101 rfl (lv_at hl 2 rfl) ?_
                  refine va_getN (D := (dC, dI)) (ci := 0) (v := .ref nr) (C := RX6) (T := TX6) (N := 2) hx hb hts in_X6 hown hK (hR1.up hS) 0 rfl rfl 0 (by decide) (((va_Nw.warmF hG.1 (va_Nw.of rfl (Z.2.1 _ q551)))).use rfl) (fun _ h9 => h9) rfl dX5_product_2_102 ?_
                  refine lv_iload hx hb dX5_product_2_105 (lv_at hl 6 rfl) ?_
                  refine a_lald hx hb hK (hR1.up hS) 1 1 rfl rfl (by omega) (by omega) dX5_product_2_107 ?_
                  refine lv_lmul hx hb dX5_product_2_108 ?_
                  refine lv_ladd hx hb dX5_product_2_109 ?_
                  refine a_last hx hb hK hP hD hS 0 1 rfl rfl (xor32 ha9 hb9) (by omega) dX5_product_2_110 (fun H locs hP hD hS => ?_)
                  have hP : va_P (dC, dI) vwCl [(na_1, .inl (dA 1, 32, .inr (.inl (vp_updL (mulB (k9 + 2) p0 q0 r0 M N a b) (a ^^^ b) (((mulB (k9 + 2) p0 q0 r0 M N a b) (a ^^^ b)) + ((((sgS p0 q0 r0 a b).toInt64) * ((fun j => M (j + 1)) a)) * ((fun j => N (j + 1)) b)))))))] H := hP
                  have hD : va_D A [(na_1, .inl (dA 1, 32, .inr (.inl (vp_updL (mulB (k9 + 2) p0 q0 r0 M N a b) (a ^^^ b) (((mulB (k9 + 2) p0 q0 r0 M N a b) (a ^^^ b)) + ((((sgS p0 q0 r0 a b).toInt64) * ((fun j => M (j + 1)) a)) * ((fun j => N (j + 1)) b)))))))] := hD
                  have e9 : (vp_updL (mulB (k9 + 2) p0 q0 r0 M N a b) (a ^^^ b) (((mulB (k9 + 2) p0 q0 r0 M N a b) (a ^^^ b)) + ((((sgS p0 q0 r0 a b).toInt64) * ((fun j => M (j + 1)) a)) * ((fun j => N (j + 1)) b))) : Nat → Int64) = (mulB (k9 + 2) p0 q0 r0 M N a (b + 1)) := mulB_s (bI_1 c_70)
                  rw [e9] at hP hD; clear e9
                  refine lv_iinc (v := nI (b + 1)) (lv' := [(6, .int (nI (b + 1))), (0, .ref ga), (1, .ref ma), (2, .ref mb), (3, .ref (σ (10 + k9))), (4, .ref na_1), (5, .int (nI a))]) hx hb dX5_product_2_111 hl (k := 6) rfl (by exact nI_add _ 1) (by decide) rfl (fun ls hl => ?_)
                  refine lv_goto (tgt := 36) hx hb dX5_product_2_114 (by decide) ?_
                  exact ih_4 (b + 1) H locs ls (by omega) (by omega) (hP.sub [0] rfl) (hD.sub [0] (by decide) rfl) hS (lv_sub hl [1, 2, 3, 4, 5, 6, 0] rfl)
          exact loop_4 _ 0 H locs ls (Nat.lt_succ_self _) (by omega) hP hD hS (lv_sub hl [1, 2, 3, 4, 5, 6, 0] rfl)
        · have c_27 : ((fun j => M (j + 1)) a) = 0 := (lg_cmp_eq _ _).mp c_27
          have e9 : (mulA (k9 + 2) p0 q0 r0 M N a : Nat → Int64) = (mulA (k9 + 2) p0 q0 r0 M N (a + 1)) := (mulB_a0 c_27 (2 ^ (p0 + q0 + r0))).symm.trans (mulB_W _ _ _ _ _ _ _)
          rw [e9] at hP hD; clear e9
          refine lv_goto (tgt := 117) hx hb dX5_product_2_30 (by decide) ?_
          refine lv_iinc (v := nI (a + 1)) (lv' := [(5, .int (nI (a + 1))), (0, .ref ga), (1, .ref ma), (2, .ref mb), (3, .ref (σ (10 + k9))), (4, .ref na_1)]) hx hb dX5_product_2_117 hl (k := 5) rfl (by exact nI_add _ 1) (by decide) rfl (fun ls hl => ?_)
          refine lv_goto (tgt := 9) hx hb dX5_product_2_120 (by decide) ?_
          exact ih_2 (a + 1) H locs ls (by omega) (by omega) (hP.sub [0] rfl) (hD.sub [0] (by decide) rfl) hS (lv_sub hl [1, 2, 3, 4, 5, 0] rfl)
  exact loop_2 _ 0 H locs ls (Nat.lt_succ_self _) (by omega) hP hD hS (lv_sub hl [2, 3, 4, 5, 1, 0] rfl)
set_option maxHeartbeats 4000000 in
theorem x5_product2 {l : Launch} {dC : Nat → ClassId} {dI : Nat → Nat → Nat} {dA : Nat → ClassId} {s0 : State} {b0 : Addr} (Z : Z0 l dC dI dA s0 b0) (A : Nat → Prop) (sz : Nat) (hA : ∀ q : Nat, sz ≤ q → A q) {σ : Nat → Nat} (Y : SS (dC, dI) dA σ s0) (ga sg : Nat) (sr : Nat → Nat) (p0 q0 r0 : Nat) (ma mr : Nat) (M : MV) (mb nr : Nat) (N : MV) (sM : MSm M) (sN : MSm N) : vx_Met l yX5_product (ws_ yX5_product cX5_product 3 (some (.object "BladeAlgebra$Multi"))) ({ frames := 7, cells := 2, slots := 38, locals := 420 } : Room) (gP [.ref ga, .ref ma, .ref mb] s0 A (fun H => H.size = sz ∧ RO A (dC, dI) [(ma, .inr (0, [.ref mr, .long (M 0)])), (mr, .inl (dA 1, 32, .inr (.inl (fun j => M (j + 1)))))] H ∧ RO A (dC, dI) [(mb, .inr (0, [.ref nr, .long (N 0)])), (nr, .inl (dA 1, 32, .inr (.inl (fun j => N (j + 1)))))] H ∧ AG A (dC, dI) dA ga sg sr p0 q0 r0 H)) (va_Qr (S := Nat × MV) (fun u => mulS 2 p0 q0 r0 M N = some u.2) (B1r (dC, dI) A (fun u q => MA dA q u.1 u.2) (fun _ _ _ => True)) A) (vx_X (S := Unit) (fun _ => mulS 2 p0 q0 r0 M N = none) (fun _ E _ _ => E = "BladeAlgebra$Unfit") A) 2 38 A := by
  refine vx_ofW (cc := cX5_product) (maxL := 3) (ret := (some (.object "BladeAlgebra$Multi"))) (by decide) rfl ?_
  intro p e s m args below meth c s₁ B hml hnoH hv
  obtain ⟨hav, hG, hsz, hR0, hR1, hAG⟩ := hv
  have hx := B.exec
  have hb := B.bytes
  have hr := B.returns
  have hts := atoms_spec (ws := (ws_ yX5_product cX5_product 3 (some (.object "BladeAlgebra$Multi")))) B.pre
  have hts : ∀ w ∈ lw_all, w.before _ s = true := fun w h => hts w (List.mem_cons_of_mem _ h)
  have hown : s.vm.findClass RX5 = some m.cls := findClass_of_methodNamed B.named
  have hlocks := B.notSynchronized
  have hK := hG.K Z
  subst hsz
  have hS : va_S A s.heap s.heap [] := va_S.rf
  have hP : va_P (dC, dI) vwCl [] s.heap := fun k q h => by simp at h
  have hD : va_D A [] := ⟨fun i j p q h => by simp at h, fun k q h => by simp at h⟩
  have hl := lv_entry ([.ref ga, .ref ma, .ref mb]) (n := 3) (Nat.le_of_ble_eq_true rfl)
  rw [show entryFrame m args 3 = entryFrame m ([.ref ga, .ref ma, .ref mb] : List Value).toArray 3 from by rw [hav], lg_entry_eq]
  generalize (lg_sl ([.ref ga, .ref ma, .ref mb]) ++ List.replicate (3 - (lg_sl ([.ref ga, .ref ma, .ref mb])).length) Slot.unset).toArray = ls at hl ⊢
  have hl : lv_has ls 3 [(0, .ref ga), (1, .ref ma), (2, .ref mb)] := hl
  generalize hQe : vx_MQ below _ _ _ s _ _ _ = Q
  change W p l e ({ frames := 7, cells := 2, slots := 38, locals := 420 } : Room) s m args below meth c s.heap [] 0 0 Q (F0 m 0 ls [])
  have hn := hAG.1
  have h5 := pow5 hn
  have hR2 := hAG.2.1
  refine lv_aload_n hx hb dX5_product_0 rfl (lv_at hl 0 rfl) ?_
  refine lv_aload_n hx hb dX5_product_1 rfl (lv_at hl 1 rfl) ?_
  refine lv_aload_n hx hb dX5_product_2 rfl (lv_at hl 2 rfl) ?_
  refine va_gets (v := .ref (σ (10 + 0))) hx hb (hG.Z Z (SS.pr Y 0 (by decide)).1) hS hown (hts _ q655) (fun _ h9 => h9) dX5_product_3 ?_
  have hF9 := va_free (wc := []) hD hS (fun q h => hA q h) [] rfl
  refine x_r (wc := []) (wr := []) (vx_runV (As := [.ref ma, .ref mb, .ref (σ (10 + 0))]) (rest := []) ⟨hx, hb, hml, hown, hts⟩ (x5_product Z (va_A [] s.heap.size) s.heap.size (fun q h => Or.inr h) Y ga sg sr p0 q0 r0 ma mr M mb nr N 0 (by omega) sM sN) (cwV 3 hts (lw_V q657 q658 q659 q101 q660) rfl rfl rfl (by decide +kernel) ⟨Nat.le_of_ble_eq_true rfl, Nat.le_of_ble_eq_true rfl⟩) (gP_V (va_recv hK (hR2.up hS) (ci := 1) (q0 := 0) rfl rfl) hG hS (fun q _ h => hF9 q h) ⟨rfl, (hR0.to hS (fun q _ h => hF9 q h)), (hR1.to hS (fun q _ h => hF9 q h)), (hAG.to hS (fun q _ h => hF9 q h))⟩) rfl rfl hl.1 rfl (lv_room (Nat.le_of_ble_eq_true rfl)) dX5_product_6 ⟨by first | decide | omega | (show _ ≤ (2 : Nat); omega), by first | decide | omega | (show _ ≤ (38 : Nat); omega)⟩) hP hD hS hA [] [] rfl rfl (by decide) (by decide) (fun E ce q9 u9 t9 H locs ht9 hp9 hb9 hz hP hS h1 h2 h3 => ?_) (fun u9 ra9 H locs hq hX hz hk hP hD hS => ?_)
  · have hD := hD.sub (ws' := []) [] (by decide) rfl
    have hP : va_P (dC, dI) vwCl [] H := hP
    have hD : va_D A [] := hD
    subst hb9
    subst hQe
    exact vx_out (fun x h => (hnoH x h).elim) hlocks h1 h2 h3 (fun t10 e10 _ => ⟨(), hp9, rfl, hS.F e10⟩) hS.2.2 (by first | decide | omega) (by first | decide | omega)
  obtain ⟨ra_1, rfl⟩ : ∃ z, z = ra9 := ⟨_, rfl⟩
  obtain ⟨mr_1, M_1⟩ := u9
  have e_1 := hq
  have sm_1 : MSm M_1 := mulS_sm sM sN e_1
  clear hq
  have hP : va_P (dC, dI) vwCl [(ra_1, .inr (0, [.ref mr_1, .long (M_1 0)])), (mr_1, .inl (dA 1, 32, .inr (.inl (fun j => M_1 (j + 1)))))] H := hP
  have hD : va_D A [(ra_1, .inr (0, [.ref mr_1, .long (M_1 0)])), (mr_1, .inl (dA 1, 32, .inr (.inl (fun j => M_1 (j + 1)))))] := hD
  subst hQe
  refine vx_ret ?_
  refine W.widen (k := 2) (n := 38) (by first | decide | omega) (by first | decide | omega) ?_
  exact W.aret (v := .ref ra_1) hx hb hr (Or.inl ⟨_, rfl⟩) (Or.inr ⟨_, rfl⟩) (fun tz ht hW => ⟨⟨(mr_1, M_1), ra_1, rfl, e_1, B1r_at ht (hP.sub [0, 1] rfl) (hD.sub [0, 1] (by decide) rfl) trivial⟩, hS.F ht⟩) hS.2.2 dX5_product_9
set_option maxHeartbeats 4000000 in
theorem x5_left {l : Launch} {dC : Nat → ClassId} {dI : Nat → Nat → Nat} {dA : Nat → ClassId} {s0 : State} {b0 : Addr} (Z : Z0 l dC dI dA s0 b0) (A : Nat → Prop) (sz : Nat) (hA : ∀ q : Nat, sz ≤ q → A q) {σ : Nat → Nat} (Y : SS (dC, dI) dA σ s0) (ga sg : Nat) (sr : Nat → Nat) (p0 q0 r0 : Nat) (ma mr : Nat) (M : MV) (b : Nat) (hn : p0 + q0 + r0 ≤ 5) (hb9 : b < 32) : Met l yX5_left (ws_ yX5_left cX5_left 5 (some (.array .long))) ({ frames := 3, cells := 1, slots := 5, locals := 180 } : Room) (gP [.ref ga, .ref ma, .int (nI b)] s0 A (fun H => H.size = sz ∧ RO A (dC, dI) [(ga, .inr (1, [.int (nI p0), .int (nI q0), .int (nI r0), .int (nI (p0 + q0 + r0)), .int (nI (2 ^ (p0 + q0 + r0) - 1)), .ref sg]))] H ∧ RO A (dC, dI) [(ma, .inr (0, [.ref mr, .long (M 0)])), (mr, .inl (dA 1, 32, .inr (.inl (fun j => M (j + 1)))))] H)) (va_Qr (S := Unit) (fun _ => True) (B1r (dC, dI) A (fun _ q => [(q, .inl (dA 1, 5, .inr (.inl (tabS (facV M b) (p0 + q0 + r0)))))]) (fun _ _ _ => True)) A) 1 5 A := by
  refine Met.ofW (cc := cX5_left) (maxL := 5) (ret := (some (.array .long))) (by decide) rfl ?_
  intro p e s m args below meth c s₁ B hml hv
  obtain ⟨hav, hG, hsz, hR0, hR1⟩ := hv
  have hx := B.exec
  have hb := B.bytes
  have hr := B.returns
  have hts := atoms_spec (ws := (ws_ yX5_left cX5_left 5 (some (.array .long)))) B.pre
  have hts : ∀ w ∈ lw_all, w.before _ s = true := fun w h => hts w (List.mem_cons_of_mem _ h)
  have hown : s.vm.findClass RX5 = some m.cls := findClass_of_methodNamed B.named
  have hlocks := B.notSynchronized
  have hK := hG.K Z
  subst hsz
  have hS : va_S A s.heap s.heap [] := va_S.rf
  have hP : va_P (dC, dI) vwCl [] s.heap := fun k q h => by simp at h
  have hD : va_D A [] := ⟨fun i j p q h => by simp at h, fun k q h => by simp at h⟩
  have hl := lv_entry ([.ref ga, .ref ma, .int (nI b)]) (n := 5) (Nat.le_of_ble_eq_true rfl)
  rw [show entryFrame m args 5 = entryFrame m ([.ref ga, .ref ma, .int (nI b)] : List Value).toArray 5 from by rw [hav], lg_entry_eq]
  generalize (lg_sl ([.ref ga, .ref ma, .int (nI b)]) ++ List.replicate (5 - (lg_sl ([.ref ga, .ref ma, .int (nI b)])).length) Slot.unset).toArray = ls at hl ⊢
  have hl : lv_has ls 5 [(0, .ref ga), (1, .ref ma), (2, .int (nI b))] := hl
  generalize hQe : MQ below _ _ s _ _ _ = Q
  change W p l e ({ frames := 3, cells := 1, slots := 5, locals := 180 } : Room) s m args below meth c s.heap [] 0 0 Q (F0 m 0 ls [])
  have h5 := pow5 hn
  refine lv_iconst (v := nI 5) hx hb dX5_left_0 (by decide) ?_
  refine a_newa (D := (dC, dI)) (atype := .long) (N' := 5) (a0 := (5, .inr (.inl (fun _ => 0)))) hx hb (hts _ q542) rfl hK hP hD hS hA 1 rfl (fun _ => ra_long) (fun _ => rfl) (by decide) (by decide) (by decide) (by first | decide | omega) (by first | decide | omega) dX5_left_1 (fun na_1 H locs hP hD hS => ?_)
  have hP : va_P (dC, dI) vwCl [(na_1, .inl (dA 1, 5, .inr (.inl (fun _ => 0))))] H := hP
  have hD : va_D A [(na_1, .inl (dA 1, 5, .inr (.inl (fun _ => 0))))] := hD
  refine lv_astore_n (lv' := [(3, .ref na_1), (0, .ref ga), (1, .ref ma), (2, .int (nI b))]) hx hb dX5_left_3 rfl hl (by decide) rfl (fun ls hl => ?_)
  refine lv_iconst (v := nI 0) hx hb dX5_left_4 (by decide) ?_
  refine lv_istore (lv' := [(4, .int (nI 0)), (3, .ref na_1), (0, .ref ga), (1, .ref ma), (2, .int (nI b))]) hx hb dX5_left_5 hl (by decide) rfl (fun ls hl => ?_)
  have e9 : (fun _ => 0 : Nat → Int64) = (tabS (facV M b) 0) := (tabS_0 _).symm
  rw [e9] at hP hD; clear e9
  have loop_2 : ∀ (n9_2 : Nat) (k : Nat) (H : Heap) (locs : List Loc) (ls : Array Slot), p0 + q0 + r0 - k < n9_2 → (k ≤ p0 + q0 + r0) → va_P (dC, dI) vwCl [(na_1, .inl (dA 1, 5, .inr (.inl (tabS (facV M b) k))))] H → va_D A [(na_1, .inl (dA 1, 5, .inr (.inl (tabS (facV M b) k))))] → va_S A s.heap H locs → lv_has ls 5 [(0, .ref ga), (1, .ref ma), (2, .int (nI b)), (3, .ref na_1), (4, .int (nI k))] → W p l e ({ frames := 3, cells := 1, slots := 5, locals := 180 } : Room) s m args below meth c H locs (0 + 1) (0 + 5) Q (F0 m 7 ls []) := by
    intro n9_2
    induction n9_2 with
    | zero => intro k H locs ls hm_2; exact absurd hm_2 (Nat.not_lt_zero _)
    | succ n9_2 ih_2 =>
      intro k H locs ls hm_2 hk9 hP hD hS hl
      refine lv_iload hx hb dX5_left_7 (lv_at hl 4 rfl) ?_
      refine lv_aload_n hx hb dX5_left_9 rfl (lv_at hl 0 rfl) ?_
      refine va_get (D := (dC, dI)) (ci := 1) (v := .int (nI (p0 + q0 + r0))) (C := RX5) (T := TX5) (N := 6) hx hb hts in_X5 hown hK (hR0.up hS) 0 rfl rfl 3 (by decide) (hts _ q207) (fun _ h9 => h9) rfl dX5_left_10 ?_
      refine lv_icmp_ge (tgt := 62) hx hb dX5_left_13 (by decide) (fun c_13 => ?_) (fun c_13 => ?_)
      · have c_13 : (p0 + q0 + r0) ≤ k := (nI_leI (a := (p0 + q0 + r0)) (b := k) (by omega) (by omega)).mp c_13
        obtain rfl : k = p0 + q0 + r0 := by omega
        refine lv_aload_n hx hb dX5_left_62 rfl (lv_at hl 3 rfl) ?_
        subst hQe
        refine W.widen (k := 1) (n := 5) (by first | decide | omega) (by first | decide | omega) ?_
        exact W.aret (v := .ref na_1) hx hb hr (Or.inr ⟨_, rfl⟩) (Or.inr ⟨_, rfl⟩) (fun tz ht hW => ⟨⟨(), na_1, rfl, trivial, B1r_at ht (hP.sub [0] rfl) (hD.sub [0] (by decide) rfl) trivial⟩, hS.F ht⟩) hS.2.2 dX5_left_63
      · have c_13 : ¬ (p0 + q0 + r0) ≤ k := fun h => c_13 ((nI_leI (a := (p0 + q0 + r0)) (b := k) (by omega) (by omega)).mpr h)
        refine lv_aload_n hx hb dX5_left_16 rfl (lv_at hl 3 rfl) ?_
        refine lv_iload hx hb dX5_left_17 (lv_at hl 4 rfl) ?_
        refine lv_iload_n hx hb dX5_left_19 rfl (lv_at hl 2 rfl) ?_
        refine lv_iload hx hb dX5_left_20 (lv_at hl 4 rfl) ?_
        refine lv_ishr hx hb dX5_left_22 ?_
        refine e_i (y := nI (b / 2 ^ k)) (n_shr (by omega) (by omega)) ?_
        refine lv_iconst (v := nI 1) hx hb dX5_left_23 (by decide) ?_
        refine lv_iand hx hb dX5_left_24 ?_
        refine e_i (y := nI ((b / 2 ^ k) &&& 1)) (n_and _ _) ?_
        refine lv_iconst (v := nI 1) hx hb dX5_left_25 (by decide) ?_
        refine lv_icmp_ne (tgt := 33) hx hb dX5_left_26 (by decide) (fun c_26 => ?_) (fun c_26 => ?_)
        · have c_26 : ¬ ((b / 2 ^ k) &&& 1) = 1 := fun h => c_26 ((nI_eq (a := ((b / 2 ^ k) &&& 1)) (b := 1) (Nat.lt_of_le_of_lt Nat.and_le_right (by decide)) (by omega)).mpr h)
          refine lv_aload_n hx hb dX5_left_33 rfl (lv_at hl 0 rfl) ?_
          refine lv_iload_n hx hb dX5_left_34 rfl (lv_at hl 2 rfl) ?_
          refine lv_iconst (v := nI 1) hx hb dX5_left_35 (by decide) ?_
          refine lv_iload hx hb dX5_left_36 (lv_at hl 4 rfl) ?_
          refine lv_ishl hx hb dX5_left_38 ?_
          refine e_i (y := nI (2 ^ k)) (n_shl1 (by omega)) ?_
          refine s_i (va_runV (As := [.int (nI b), .int (nI (2 ^ k))]) (rest := [.int (nI k), .ref na_1]) ⟨hx, hb, hml, hown, hts⟩ (x5_outerSign Z Y ga sg sr p0 q0 r0 b (2 ^ k) hn (by omega) (pow_lt' (show k < p0 + q0 + r0 by omega))) (cwV 2 hts (lw_V q711 q713 qs4 q101 q714) rfl rfl rfl (by decide +kernel) ⟨Nat.le_of_ble_eq_true rfl, Nat.le_of_ble_eq_true rfl⟩) (gP_V (va_recv hK (hR0.up hS) (ci := 1) (q0 := 0) rfl rfl) hG hS (fun q _ h => h.elim) ((hR0.up hS).sub (ws' := [(ga, .inr (1, [.int (nI p0), .int (nI q0), .int (nI r0), .int (nI (p0 + q0 + r0)), .int (nI (2 ^ (p0 + q0 + r0) - 1)), .ref sg]))]) [0] rfl)) rfl rfl hl.1 rfl (lv_room (Nat.le_of_ble_eq_true rfl)) dX5_left_39 ⟨by first | decide | omega | (show _ ≤ (1 : Nat); omega), by first | decide | omega | (show _ ≤ (5 : Nat); omega)⟩) ?_
          refine lv_i2l (v := (ordS b (2 ^ k)).toInt64) hx hb dX5_left_42 rfl ?_
          refine lv_aload_n hx hb dX5_left_43 rfl (lv_at hl 1 rfl) ?_
          refine va_getN (D := (dC, dI)) (ci := 0) (v := .ref mr) (C := RX6) (T := TX6) (N := 2) hx hb hts in_X6 hown hK (hR1.up hS) 0 rfl rfl 0 (by decide) (((va_Nw.warmF hG.1 (va_Nw.of rfl (Z.2.1 _ q551)))).use rfl) (fun _ h9 => h9) rfl dX5_left_44 ?_
          refine lv_iload_n hx hb dX5_left_47 rfl (lv_at hl 2 rfl) ?_
          refine lv_iconst (v := nI 1) hx hb dX5_left_48 (by decide) ?_
          refine lv_iload hx hb dX5_left_49 (lv_at hl 4 rfl) ?_
          refine lv_ishl hx hb dX5_left_51 ?_
          refine e_i (y := nI (2 ^ k)) (n_shl1 (by omega)) ?_
          refine lv_ior hx hb dX5_left_52 ?_
          refine e_i (y := nI (b ||| (2 ^ k))) (n_or _ _) ?_
          refine a_lald hx hb hK (hR1.up hS) 1 1 rfl rfl (or32 (by omega) (p5 (by omega))) (by omega) dX5_left_53 ?_
          refine lv_lmul hx hb dX5_left_54 ?_
          refine e_l (y := facV M b k) ((if_neg c_26).symm) ?_
          refine a_last hx hb hK hP hD hS 0 1 rfl rfl (by omega) (by omega) dX5_left_55 (fun H locs hP hD hS => ?_)
          have hP : va_P (dC, dI) vwCl [(na_1, .inl (dA 1, 5, .inr (.inl (vp_updL (tabS (facV M b) k) k (facV M b k)))))] H := hP
          have hD : va_D A [(na_1, .inl (dA 1, 5, .inr (.inl (vp_updL (tabS (facV M b) k) k (facV M b k)))))] := hD
          have e9 : (vp_updL (tabS (facV M b) k) k (facV M b k) : Nat → Int64) = (tabS (facV M b) (k + 1)) := tabS_s _ _
          rw [e9] at hP hD; clear e9
          refine lv_iinc (v := nI (k + 1)) (lv' := [(4, .int (nI (k + 1))), (0, .ref ga), (1, .ref ma), (2, .int (nI b)), (3, .ref na_1)]) hx hb dX5_left_56 hl (k := 4) rfl (by exact nI_add _ 1) (by decide) rfl (fun ls hl => ?_)
          refine lv_goto (tgt := 7) hx hb dX5_left_59 (by decide) ?_
          exact ih_2 (k + 1) H locs ls (by omega) (by omega) (hP.sub [0] rfl) (hD.sub [0] (by decide) rfl) hS (lv_sub hl [1, 2, 3, 4, 0] rfl)
        · have c_26 : ((b / 2 ^ k) &&& 1) = 1 := (nI_eq (a := ((b / 2 ^ k) &&& 1)) (b := 1) (Nat.lt_of_le_of_lt Nat.and_le_right (by decide)) (by omega)).mp c_26
          refine lv_lconst (v := 0) hx hb dX5_left_29 rfl ?_
          refine lv_goto (tgt := 55) hx hb dX5_left_30 (by decide) ?_
          refine e_l (y := facV M b k) ((if_pos c_26).symm) ?_
          refine a_last hx hb hK hP hD hS 0 1 rfl rfl (by omega) (by omega) dX5_left_55 (fun H locs hP hD hS => ?_)
          have hP : va_P (dC, dI) vwCl [(na_1, .inl (dA 1, 5, .inr (.inl (vp_updL (tabS (facV M b) k) k (facV M b k)))))] H := hP
          have hD : va_D A [(na_1, .inl (dA 1, 5, .inr (.inl (vp_updL (tabS (facV M b) k) k (facV M b k)))))] := hD
          have e9 : (vp_updL (tabS (facV M b) k) k (facV M b k) : Nat → Int64) = (tabS (facV M b) (k + 1)) := tabS_s _ _
          rw [e9] at hP hD; clear e9
          refine lv_iinc (v := nI (k + 1)) (lv' := [(4, .int (nI (k + 1))), (0, .ref ga), (1, .ref ma), (2, .int (nI b)), (3, .ref na_1)]) hx hb dX5_left_56 hl (k := 4) rfl (by exact nI_add _ 1) (by decide) rfl (fun ls hl => ?_)
          refine lv_goto (tgt := 7) hx hb dX5_left_59 (by decide) ?_
          exact ih_2 (k + 1) H locs ls (by omega) (by omega) (hP.sub [0] rfl) (hD.sub [0] (by decide) rfl) hS (lv_sub hl [1, 2, 3, 4, 0] rfl)
  exact loop_2 _ 0 H locs ls (Nat.lt_succ_self _) (by omega) hP hD hS (lv_sub hl [2, 3, 4, 1, 0] rfl)
set_option maxHeartbeats 4000000 in
theorem x5_isOuterZero {l : Launch} {dC : Nat → ClassId} {dI : Nat → Nat → Nat} {dA : Nat → ClassId} {s0 : State} {b0 : Addr} (Z : Z0 l dC dI dA s0 b0) {σ : Nat → Nat} (Y : SS (dC, dI) dA σ s0) (ga sg : Nat) (sr : Nat → Nat) (p0 q0 r0 : Nat) (va : Nat) (fv : Nat → Int64) (ma mr : Nat) (M : MV) (hn : p0 + q0 + r0 ≤ 5) : Met l yX5_isOuterZero (ws_ yX5_isOuterZero cX5_isOuterZero 7 (some .boolean)) ({ frames := 3, cells := 0, slots := 0, locals := 180 } : Room) (gP [.ref ga, .ref va, .ref ma] s0 (fun _ => False) (fun H => va_P (dC, dI) vwCl [(ga, .inr (1, [.int (nI p0), .int (nI q0), .int (nI r0), .int (nI (p0 + q0 + r0)), .int (nI (2 ^ (p0 + q0 + r0) - 1)), .ref sg])), (va, .inl (dA 1, 5, .inr (.inl fv))), (ma, .inr (0, [.ref mr, .long (M 0)])), (mr, .inl (dA 1, 32, .inr (.inl (fun j => M (j + 1)))))] H)) (vp_Si (fun r => r = bI (ozN fv M (p0 + q0 + r0) (2 ^ (p0 + q0 + r0))))) 0 0 (fun _ => False) := by
  refine Met.ofW (cc := cX5_isOuterZero) (maxL := 7) (ret := (some .boolean)) (by decide) rfl ?_
  intro p e s m args below meth c s₁ B hml hv
  obtain ⟨hav, hG, hP⟩ := hv
  have hx := B.exec
  have hb := B.bytes
  have hr := B.returns
  have hts := atoms_spec (ws := (ws_ yX5_isOuterZero cX5_isOuterZero 7 (some .boolean))) B.pre
  have hts : ∀ w ∈ lw_all, w.before _ s = true := fun w h => hts w (List.mem_cons_of_mem _ h)
  have hown : s.vm.findClass RX5 = some m.cls := findClass_of_methodNamed B.named
  have hlocks := B.notSynchronized
  have hK := hG.K Z
  have hS : va_S (fun _ => False) s.heap s.heap [] := va_S.rf
  have hl := lv_entry ([.ref ga, .ref va, .ref ma]) (n := 7) (Nat.le_of_ble_eq_true rfl)
  rw [show entryFrame m args 7 = entryFrame m ([.ref ga, .ref va, .ref ma] : List Value).toArray 7 from by rw [hav], lg_entry_eq]
  generalize (lg_sl ([.ref ga, .ref va, .ref ma]) ++ List.replicate (7 - (lg_sl ([.ref ga, .ref va, .ref ma])).length) Slot.unset).toArray = ls at hl ⊢
  have hl : lv_has ls 7 [(0, .ref ga), (1, .ref va), (2, .ref ma)] := hl
  generalize hQe : MQ below _ _ s _ _ _ = Q
  change W p l e ({ frames := 3, cells := 0, slots := 0, locals := 180 } : Room) s m args below meth c s.heap [] 0 0 Q (F0 m 0 ls [])
  have h5 := pow5 hn
  refine lv_iconst (v := nI 0) hx hb dX5_isOuterZero_0 (by decide) ?_
  refine lv_istore_n (lv' := [(3, .int (nI 0)), (0, .ref ga), (1, .ref va), (2, .ref ma)]) hx hb dX5_isOuterZero_1 rfl hl (by decide) rfl (fun ls hl => ?_)
  have loop_1 : ∀ (n9_1 : Nat) (x : Nat) (ls : Array Slot), 33 - x < n9_1 → (x ≤ 2 ^ (p0 + q0 + r0)) → (ozN fv M (p0 + q0 + r0) x = true) → lv_has ls 7 [(0, .ref ga), (1, .ref va), (2, .ref ma), (3, .int (nI x))] → W p l e ({ frames := 3, cells := 0, slots := 0, locals := 180 } : Room) s m args below meth c s.heap [] 0 0 Q (F0 m 2 ls []) := by
    intro n9_1
    induction n9_1 with
    | zero => intro x ls hm_1; exact absurd hm_1 (Nat.not_lt_zero _)
    | succ n9_1 ih_1 =>
      intro x ls hm_1 hx8 hz9 hl
      refine lv_iload_n hx hb dX5_isOuterZero_2 rfl (lv_at hl 3 rfl) ?_
      refine lv_aload_n hx hb dX5_isOuterZero_3 rfl (lv_at hl 0 rfl) ?_
      refine va_get (D := (dC, dI)) (ci := 1) (v := .int (nI (2 ^ (p0 + q0 + r0) - 1))) (C := RX5) (T := TX5) (N := 6) hx hb hts in_X5 hown hK hP 0 rfl rfl 4 (by decide) (hts _ q211) (fun _ h9 => h9) rfl dX5_isOuterZero_4 ?_
      refine lv_icmp_gt (tgt := 93) hx hb dX5_isOuterZero_7 (by decide) (fun c_7 => ?_) (fun c_7 => ?_)
      · have c_7 : (2 ^ (p0 + q0 + r0) - 1) < x := (nI_ltI (a := (2 ^ (p0 + q0 + r0) - 1)) (b := x) (by omega) (by omega)).mp c_7
        obtain rfl : x = 2 ^ (p0 + q0 + r0) := by omega
        refine lv_iconst (v := nI 1) hx hb dX5_isOuterZero_93 (by decide) ?_
        subst hQe
        exact W.zret (v := nI 1) hx hb hr rfl (fun tz ht hW => ⟨_, rfl, (by rw [hz9]; rfl), ht⟩) hS.2.2 dX5_isOuterZero_94
      · have c_7 : ¬ (2 ^ (p0 + q0 + r0) - 1) < x := fun h => c_7 ((nI_ltI (a := (2 ^ (p0 + q0 + r0) - 1)) (b := x) (by omega) (by omega)).mpr h)
        have hx9 : x < 2 ^ (p0 + q0 + r0) := by omega
        have hxk : ∀ k, k < p0 + q0 + r0 → x ^^^ 2 ^ k < 2 ^ (p0 + q0 + r0) := fun k hk => Nat.xor_lt_two_pow hx9 (pow_lt' hk)
        refine lv_lconst (v := 0) hx hb dX5_isOuterZero_10 rfl ?_
        refine lv_lstore (lv' := [(4, .long 0), (0, .ref ga), (1, .ref va), (2, .ref ma), (3, .int (nI x))]) hx hb dX5_isOuterZero_11 hl (by decide) rfl (fun ls hl => ?_)
        refine lv_iconst (v := nI 0) hx hb dX5_isOuterZero_13 (by decide) ?_
        refine lv_istore (lv' := [(6, .int (nI 0)), (4, .long 0), (0, .ref ga), (1, .ref va), (2, .ref ma), (3, .int (nI x))]) hx hb dX5_isOuterZero_14 hl (by decide) rfl (fun ls hl => ?_)
        have loop_2 : ∀ (n9_2 : Nat) (k : Nat) (ls : Array Slot), p0 + q0 + r0 - k < n9_2 → (k ≤ p0 + q0 + r0) → lv_has ls 7 [(0, .ref ga), (1, .ref va), (2, .ref ma), (3, .int (nI x)), (4, .long (ozS fv M x k)), (6, .int (nI k))] → W p l e ({ frames := 3, cells := 0, slots := 0, locals := 180 } : Room) s m args below meth c s.heap [] 0 0 Q (F0 m 16 ls []) := by
          intro n9_2
          induction n9_2 with
          | zero => intro k ls hm_2; exact absurd hm_2 (Nat.not_lt_zero _)
          | succ n9_2 ih_2 =>
            intro k ls hm_2 hk9 hl
            refine lv_iload hx hb dX5_isOuterZero_16 (lv_at hl 5 rfl) ?_
            refine lv_aload_n hx hb dX5_isOuterZero_18 rfl (lv_at hl 0 rfl) ?_
            refine va_get (D := (dC, dI)) (ci := 1) (v := .int (nI (p0 + q0 + r0))) (C := RX5) (T := TX5) (N := 6) hx hb hts in_X5 hown hK hP 0 rfl rfl 3 (by decide) (hts _ q207) (fun _ h9 => h9) rfl dX5_isOuterZero_19 ?_
            refine lv_icmp_ge (tgt := 78) hx hb dX5_isOuterZero_22 (by decide) (fun c_22 => ?_) (fun c_22 => ?_)
            · have c_22 : (p0 + q0 + r0) ≤ k := (nI_leI (a := (p0 + q0 + r0)) (b := k) (by omega) (by omega)).mp c_22
              obtain rfl : k = p0 + q0 + r0 := by omega
              refine lv_lload hx hb dX5_isOuterZero_78 (lv_at hl 4 rfl) ?_
              refine lv_lconst (v := 0) hx hb dX5_isOuterZero_80 rfl ?_
              refine W.lcmp hx hb dX5_isOuterZero_81 ?_
              refine lv_if_eq (tgt := 87) hx hb dX5_isOuterZero_82 (by decide) (fun c_82 => ?_) (fun c_82 => ?_)
              · have c_82 : (ozS fv M x (p0 + q0 + r0)) = 0 := (lg_cmp_eq _ _).mp c_82
                refine lv_iinc (v := nI (x + 1)) (lv' := [(3, .int (nI (x + 1))), (0, .ref ga), (1, .ref va), (2, .ref ma), (4, .long (ozS fv M x (p0 + q0 + r0))), (6, .int (nI (p0 + q0 + r0)))]) hx hb dX5_isOuterZero_87 hl (k := 3) rfl (by exact nI_add _ 1) (by decide) rfl (fun ls hl => ?_)
                refine lv_goto (tgt := 2) hx hb dX5_isOuterZero_90 (by decide) ?_
                exact ih_1 (x + 1) ls (by omega) (by omega) (by show (ozN fv M _ x && decide _) = true; rw [hz9, decide_eq_true c_82]; rfl) (lv_sub hl [1, 2, 3, 0] rfl)
              · have c_82 : ¬ (ozS fv M x (p0 + q0 + r0)) = 0 := fun h => c_82 ((lg_cmp_eq _ _).mpr h)
                refine lv_iconst (v := nI 0) hx hb dX5_isOuterZero_85 (by decide) ?_
                subst hQe
                exact W.zret (v := nI 0) hx hb hr rfl (fun tz ht hW => ⟨_, rfl, (by rw [ozN_mono (show ozN fv M (p0 + q0 + r0) (x + 1) = false from (by show (ozN fv M _ x && decide _) = false; rw [decide_eq_false c_82, Bool.and_false])) (by omega)]; rfl), ht⟩) hS.2.2 dX5_isOuterZero_86
            · have c_22 : ¬ (p0 + q0 + r0) ≤ k := fun h => c_22 ((nI_leI (a := (p0 + q0 + r0)) (b := k) (by omega) (by omega)).mpr h)
              refine lv_iload_n hx hb dX5_isOuterZero_25 rfl (lv_at hl 3 rfl) ?_
              refine lv_iload hx hb dX5_isOuterZero_26 (lv_at hl 5 rfl) ?_
              refine lv_ishr hx hb dX5_isOuterZero_28 ?_
              refine e_i (y := nI (x / 2 ^ k)) (n_shr (by omega) (by omega)) ?_
              refine lv_iconst (v := nI 1) hx hb dX5_isOuterZero_29 (by decide) ?_
              refine lv_iand hx hb dX5_isOuterZero_30 ?_
              refine e_i (y := nI ((x / 2 ^ k) &&& 1)) (n_and _ _) ?_
              refine lv_iconst (v := nI 1) hx hb dX5_isOuterZero_31 (by decide) ?_
              refine lv_icmp_ne (tgt := 72) hx hb dX5_isOuterZero_32 (by decide) (fun c_32 => ?_) (fun c_32 => ?_)
              · have c_32 : ¬ ((x / 2 ^ k) &&& 1) = 1 := fun h => c_32 ((nI_eq (a := ((x / 2 ^ k) &&& 1)) (b := 1) (Nat.lt_of_le_of_lt Nat.and_le_right (by decide)) (by omega)).mpr h)
                have hl : lv_has ls 7 [(0, .ref ga), (1, .ref va), (2, .ref ma), (3, .int (nI x)), (4, .long (ozS fv M x (k + 1))), (6, .int (nI k))] := by rw [show ozS fv M x (k + 1) = ozS fv M x k from (show (if x / 2 ^ k &&& 1 = 1 then _ else ozS fv M x k) = _ from if_neg c_32)]; exact hl
                refine lv_iinc (v := nI (k + 1)) (lv' := [(6, .int (nI (k + 1))), (0, .ref ga), (1, .ref va), (2, .ref ma), (3, .int (nI x)), (4, .long (ozS fv M x (k + 1)))]) hx hb dX5_isOuterZero_72 hl (k := 5) rfl (by exact nI_add _ 1) (by decide) rfl (fun ls hl => ?_)
                refine lv_goto (tgt := 16) hx hb dX5_isOuterZero_75 (by decide) ?_
                exact ih_2 (k + 1) ls (by omega) (by omega) (lv_sub hl [1, 2, 3, 4, 5, 0] rfl)
              · have c_32 : ((x / 2 ^ k) &&& 1) = 1 := (nI_eq (a := ((x / 2 ^ k) &&& 1)) (b := 1) (Nat.lt_of_le_of_lt Nat.and_le_right (by decide)) (by omega)).mp c_32
                refine lv_lload hx hb dX5_isOuterZero_35 (lv_at hl 4 rfl) ?_
                refine lv_aload_n hx hb dX5_isOuterZero_37 rfl (lv_at hl 0 rfl) ?_
                refine lv_iconst (v := nI 1) hx hb dX5_isOuterZero_38 (by decide) ?_
                refine lv_iload hx hb dX5_isOuterZero_39 (lv_at hl 5 rfl) ?_
                refine lv_ishl hx hb dX5_isOuterZero_41 ?_
                refine e_i (y := nI (2 ^ k)) (n_shl1 (by omega)) ?_
                refine lv_iload_n hx hb dX5_isOuterZero_42 rfl (lv_at hl 3 rfl) ?_
                refine lv_iconst (v := nI 1) hx hb dX5_isOuterZero_43 (by decide) ?_
                refine lv_iload hx hb dX5_isOuterZero_44 (lv_at hl 5 rfl) ?_
                refine lv_ishl hx hb dX5_isOuterZero_46 ?_
                refine e_i (y := nI (2 ^ k)) (n_shl1 (by omega)) ?_
                refine lv_ixor hx hb dX5_isOuterZero_47 ?_
                refine e_i (y := nI (x ^^^ (2 ^ k))) (n_xor _ _) ?_
                refine s_i (va_runV (As := [.int (nI (2 ^ k)), .int (nI (x ^^^ (2 ^ k)))]) (rest := [.long (ozS fv M x k)]) ⟨hx, hb, hml, hown, hts⟩ (x5_outerSign Z Y ga sg sr p0 q0 r0 (2 ^ k) (x ^^^ (2 ^ k)) hn (p5 (by omega)) (hxk k (by omega))) (cwV 2 hts (lw_V q711 q713 qs4 q101 q714) rfl rfl rfl (by decide +kernel) ⟨Nat.le_of_ble_eq_true rfl, Nat.le_of_ble_eq_true rfl⟩) (gP_V (va_recv hK hP (ci := 1) (q0 := 0) rfl rfl) hG hS (fun q _ h => h.elim) (hP.sub (ws' := [(ga, .inr (1, [.int (nI p0), .int (nI q0), .int (nI r0), .int (nI (p0 + q0 + r0)), .int (nI (2 ^ (p0 + q0 + r0) - 1)), .ref sg]))]) [0] rfl)) rfl rfl hl.1 rfl (lv_room (Nat.le_of_ble_eq_true rfl)) dX5_isOuterZero_48 ⟨by first | decide | omega | (show _ ≤ (0 : Nat); omega), by first | decide | omega | (show _ ≤ (0 : Nat); omega)⟩) ?_
                refine lv_i2l (v := (ordS (2 ^ k) (x ^^^ (2 ^ k))).toInt64) hx hb dX5_isOuterZero_51 rfl ?_
                refine lv_aload_n hx hb dX5_isOuterZero_52 rfl (lv_at hl 1 rfl) ?_
                refine lv_iload hx hb dX5_isOuterZero_53 (lv_at hl 5 rfl) ?_
                refine a_lald hx hb hK hP 1 1 rfl rfl (by omega) (by omega) dX5_isOuterZero_55 ?_
                refine lv_lmul hx hb dX5_isOuterZero_56 ?_
                refine lv_aload_n hx hb dX5_isOuterZero_57 rfl (lv_at hl 2 rfl) ?_
                refine va_getN (D := (dC, dI)) (ci := 0) (v := .ref mr) (C := RX6) (T := TX6) (N := 2) hx hb hts in_X6 hown hK hP 2 rfl rfl 0 (by decide) (((va_Nw.warmF hG.1 (va_Nw.of rfl (Z.2.1 _ q551)))).use rfl) (fun _ h9 => h9) rfl dX5_isOuterZero_58 ?_
                refine lv_iload_n hx hb dX5_isOuterZero_61 rfl (lv_at hl 3 rfl) ?_
                refine lv_iconst (v := nI 1) hx hb dX5_isOuterZero_62 (by decide) ?_
                refine lv_iload hx hb dX5_isOuterZero_63 (lv_at hl 5 rfl) ?_
                refine lv_ishl hx hb dX5_isOuterZero_65 ?_
                refine e_i (y := nI (2 ^ k)) (n_shl1 (by omega)) ?_
                refine lv_ixor hx hb dX5_isOuterZero_66 ?_
                refine e_i (y := nI (x ^^^ (2 ^ k))) (n_xor _ _) ?_
                refine a_lald hx hb hK hP 3 1 rfl rfl (Nat.lt_of_lt_of_le (hxk k (by omega)) (by omega)) (by omega) dX5_isOuterZero_67 ?_
                refine lv_lmul hx hb dX5_isOuterZero_68 ?_
                refine lv_ladd hx hb dX5_isOuterZero_69 ?_
                refine e_l (y := ozS fv M x (k + 1)) ((if_pos c_32).symm) ?_
                refine lv_lstore (lv' := [(4, .long (ozS fv M x (k + 1))), (0, .ref ga), (1, .ref va), (2, .ref ma), (3, .int (nI x)), (6, .int (nI k))]) hx hb dX5_isOuterZero_70 hl (by decide) rfl (fun ls hl => ?_)
                refine lv_iinc (v := nI (k + 1)) (lv' := [(6, .int (nI (k + 1))), (4, .long (ozS fv M x (k + 1))), (0, .ref ga), (1, .ref va), (2, .ref ma), (3, .int (nI x))]) hx hb dX5_isOuterZero_72 hl (k := 5) rfl (by exact nI_add _ 1) (by decide) rfl (fun ls hl => ?_)
                refine lv_goto (tgt := 16) hx hb dX5_isOuterZero_75 (by decide) ?_
                exact ih_2 (k + 1) ls (by omega) (by omega) (lv_sub hl [2, 3, 4, 5, 1, 0] rfl)
        exact loop_2 _ 0 ls (Nat.lt_succ_self _) (by omega) (lv_sub hl [2, 3, 4, 5, 1, 0] rfl)
  exact loop_1 _ 0 ls (Nat.lt_succ_self _) (by omega) rfl (lv_sub hl [1, 2, 3, 0] rfl)
set_option maxHeartbeats 4000000 in
theorem x5_vectorsIn {l : Launch} {dC : Nat → ClassId} {dI : Nat → Nat → Nat} {dA : Nat → ClassId} {s0 : State} {b0 : Addr} (Z : Z0 l dC dI dA s0 b0) {σ : Nat → Nat} (Y : SS (dC, dI) dA σ s0) (ga sg : Nat) (sr : Nat → Nat) (p0 q0 r0 : Nat) (ma mr : Nat) (M : MV) (hn : p0 + q0 + r0 ≤ 5) : Met l yX5_vectorsIn (ws_ yX5_vectorsIn cX5_vectorsIn 6 (some .int)) ({ frames := 2, cells := 0, slots := 0, locals := 120 } : Room) (gP [.ref ga, .ref ma] s0 (fun _ => False) (fun H => va_P (dC, dI) vwCl [(ga, .inr (1, [.int (nI p0), .int (nI q0), .int (nI r0), .int (nI (p0 + q0 + r0)), .int (nI (2 ^ (p0 + q0 + r0) - 1)), .ref sg])), (ma, .inr (0, [.ref mr, .long (M 0)])), (mr, .inl (dA 1, 32, .inr (.inl (fun j => M (j + 1)))))] H)) (vp_Si (fun r => r = nI (vinN M (2 ^ (p0 + q0 + r0) - 1) (2 ^ (p0 + q0 + r0))))) 0 0 (fun _ => False) := by
  refine Met.ofW (cc := cX5_vectorsIn) (maxL := 6) (ret := (some .int)) (by decide) rfl ?_
  intro p e s m args below meth c s₁ B hml hv
  obtain ⟨hav, hG, hP⟩ := hv
  have hx := B.exec
  have hb := B.bytes
  have hr := B.returns
  have hts := atoms_spec (ws := (ws_ yX5_vectorsIn cX5_vectorsIn 6 (some .int))) B.pre
  have hts : ∀ w ∈ lw_all, w.before _ s = true := fun w h => hts w (List.mem_cons_of_mem _ h)
  have hown : s.vm.findClass RX5 = some m.cls := findClass_of_methodNamed B.named
  have hlocks := B.notSynchronized
  have hK := hG.K Z
  have hS : va_S (fun _ => False) s.heap s.heap [] := va_S.rf
  have hl := lv_entry ([.ref ga, .ref ma]) (n := 6) (Nat.le_of_ble_eq_true rfl)
  rw [show entryFrame m args 6 = entryFrame m ([.ref ga, .ref ma] : List Value).toArray 6 from by rw [hav], lg_entry_eq]
  generalize (lg_sl ([.ref ga, .ref ma]) ++ List.replicate (6 - (lg_sl ([.ref ga, .ref ma])).length) Slot.unset).toArray = ls at hl ⊢
  have hl : lv_has ls 6 [(0, .ref ga), (1, .ref ma)] := hl
  generalize hQe : MQ below _ _ s _ _ _ = Q
  change W p l e ({ frames := 2, cells := 0, slots := 0, locals := 120 } : Room) s m args below meth c s.heap [] 0 0 Q (F0 m 0 ls [])
  have h5 := pow5 hn
  refine lv_iconst (v := nI 0) hx hb dX5_vectorsIn_0 (by decide) ?_
  refine lv_istore_n (lv' := [(2, .int (nI 0)), (0, .ref ga), (1, .ref ma)]) hx hb dX5_vectorsIn_1 rfl hl (by decide) rfl (fun ls hl => ?_)
  refine lv_iconst (v := nI 0) hx hb dX5_vectorsIn_2 (by decide) ?_
  refine lv_istore_n (lv' := [(3, .int (nI 0)), (2, .int (nI 0)), (0, .ref ga), (1, .ref ma)]) hx hb dX5_vectorsIn_3 rfl hl (by decide) rfl (fun ls hl => ?_)
  have loop_1 : ∀ (n9_1 : Nat) (k : Nat) (ls : Array Slot), p0 + q0 + r0 - k < n9_1 → (k ≤ p0 + q0 + r0) → lv_has ls 6 [(0, .ref ga), (1, .ref ma), (2, .int (nI (vinC M (p0 + q0 + r0) k))), (3, .int (nI k))] → W p l e ({ frames := 2, cells := 0, slots := 0, locals := 120 } : Room) s m args below meth c s.heap [] 0 0 Q (F0 m 4 ls []) := by
    intro n9_1
    induction n9_1 with
    | zero => intro k ls hm_1; exact absurd hm_1 (Nat.not_lt_zero _)
    | succ n9_1 ih_1 =>
      intro k ls hm_1 hk9 hl
      have hvc := vinC_lt M (p0 + q0 + r0) k
      refine lv_iload_n hx hb dX5_vectorsIn_4 rfl (lv_at hl 3 rfl) ?_
      refine lv_aload_n hx hb dX5_vectorsIn_5 rfl (lv_at hl 0 rfl) ?_
      refine va_get (D := (dC, dI)) (ci := 1) (v := .int (nI (p0 + q0 + r0))) (C := RX5) (T := TX5) (N := 6) hx hb hts in_X5 hown hK hP 0 rfl rfl 3 (by decide) (hts _ q207) (fun _ h9 => h9) rfl dX5_vectorsIn_6 ?_
      refine lv_icmp_ge (tgt := 86) hx hb dX5_vectorsIn_9 (by decide) (fun c_9 => ?_) (fun c_9 => ?_)
      · have c_9 : (p0 + q0 + r0) ≤ k := (nI_leI (a := (p0 + q0 + r0)) (b := k) (by omega) (by omega)).mp c_9
        obtain rfl : k = p0 + q0 + r0 := by omega
        refine lv_iload_n hx hb dX5_vectorsIn_86 rfl (lv_at hl 2 rfl) ?_
        subst hQe
        exact W.iret (v := nI (vinC M (p0 + q0 + r0) (p0 + q0 + r0))) hx hb hr (fun tz ht hW => ⟨_, rfl, (n_eq (vinC_vin hn)), ht⟩) hS.2.2 dX5_vectorsIn_87
      · have c_9 : ¬ (p0 + q0 + r0) ≤ k := fun h => c_9 ((nI_leI (a := (p0 + q0 + r0)) (b := k) (by omega) (by omega)).mpr h)
        have h2k := p5 (show k < 5 by omega)
        refine lv_iconst (v := nI 1) hx hb dX5_vectorsIn_12 (by decide) ?_
        refine lv_istore (lv' := [(4, .int (nI 1)), (0, .ref ga), (1, .ref ma), (2, .int (nI (vinC M (p0 + q0 + r0) k))), (3, .int (nI k))]) hx hb dX5_vectorsIn_13 hl (by decide) rfl (fun ls hl => ?_)
        refine lv_iconst (v := nI 0) hx hb dX5_vectorsIn_15 (by decide) ?_
        refine lv_istore (lv' := [(5, .int (nI 0)), (4, .int (nI 1)), (0, .ref ga), (1, .ref ma), (2, .int (nI (vinC M (p0 + q0 + r0) k))), (3, .int (nI k))]) hx hb dX5_vectorsIn_16 hl (by decide) rfl (fun ls hl => ?_)
        have hl : lv_has ls 6 [(5, .int (nI 0)), (4, .int (bI (allB M k 0))), (0, .ref ga), (1, .ref ma), (2, .int (nI (vinC M (p0 + q0 + r0) k))), (3, .int (nI k))] := by rw [show bI (allB M k 0) = nI 1 from rfl]; exact hl
        have loop_2 : ∀ (n9_2 : Nat) (b : Nat) (ls : Array Slot), 33 - b < n9_2 → (b ≤ 2 ^ (p0 + q0 + r0)) → lv_has ls 6 [(0, .ref ga), (1, .ref ma), (2, .int (nI (vinC M (p0 + q0 + r0) k))), (3, .int (nI k)), (4, .int (bI (allB M k b))), (5, .int (nI b))] → W p l e ({ frames := 2, cells := 0, slots := 0, locals := 120 } : Room) s m args below meth c s.heap [] 0 0 Q (F0 m 18 ls []) := by
          intro n9_2
          induction n9_2 with
          | zero => intro b ls hm_2; exact absurd hm_2 (Nat.not_lt_zero _)
          | succ n9_2 ih_2 =>
            intro b ls hm_2 hb8 hl
            refine lv_iload hx hb dX5_vectorsIn_18 (lv_at hl 5 rfl) ?_
            refine lv_aload_n hx hb dX5_vectorsIn_20 rfl (lv_at hl 0 rfl) ?_
            refine va_get (D := (dC, dI)) (ci := 1) (v := .int (nI (2 ^ (p0 + q0 + r0) - 1))) (C := RX5) (T := TX5) (N := 6) hx hb hts in_X5 hown hK hP 0 rfl rfl 4 (by decide) (hts _ q211) (fun _ h9 => h9) rfl dX5_vectorsIn_21 ?_
            refine lv_icmp_gt (tgt := 65) hx hb dX5_vectorsIn_24 (by decide) (fun c_24 => ?_) (fun c_24 => ?_)
            · have c_24 : (2 ^ (p0 + q0 + r0) - 1) < b := (nI_ltI (a := (2 ^ (p0 + q0 + r0) - 1)) (b := b) (by omega) (by omega)).mp c_24
              obtain rfl : b = 2 ^ (p0 + q0 + r0) := by omega
              refine lv_iload_n hx hb dX5_vectorsIn_65 rfl (lv_at hl 2 rfl) ?_
              refine lv_iload hx hb dX5_vectorsIn_66 (lv_at hl 4 rfl) ?_
              refine lv_if_eq (tgt := 77) hx hb dX5_vectorsIn_68 (by decide) (fun c_68 => ?_) (fun c_68 => ?_)
              · refine lv_iconst (v := nI 0) hx hb dX5_vectorsIn_77 (by decide) ?_
                refine lv_ior hx hb dX5_vectorsIn_78 ?_
                refine e_i (y := nI ((vinC M (p0 + q0 + r0) k) ||| 0)) (n_or _ _) ?_
                refine e_i (y := nI (vinC M (p0 + q0 + r0) (k + 1))) (n_eq (by show _ = vinC M (p0 + q0 + r0) k ||| (if allB M k (2 ^ (p0 + q0 + r0)) = true then 2 ^ k else 0); rw [bI_0 c_68, if_neg (by decide)])) ?_
                refine lv_istore_n (lv' := [(2, .int (nI (vinC M (p0 + q0 + r0) (k + 1)))), (0, .ref ga), (1, .ref ma), (3, .int (nI k)), (4, .int (bI (allB M k (2 ^ (p0 + q0 + r0))))), (5, .int (nI (2 ^ (p0 + q0 + r0))))]) hx hb dX5_vectorsIn_79 rfl hl (by decide) rfl (fun ls hl => ?_)
                refine lv_iinc (v := nI (k + 1)) (lv' := [(3, .int (nI (k + 1))), (2, .int (nI (vinC M (p0 + q0 + r0) (k + 1)))), (0, .ref ga), (1, .ref ma), (4, .int (bI (allB M k (2 ^ (p0 + q0 + r0))))), (5, .int (nI (2 ^ (p0 + q0 + r0))))]) hx hb dX5_vectorsIn_80 hl (k := 3) rfl (by exact nI_add _ 1) (by decide) rfl (fun ls hl => ?_)
                refine lv_goto (tgt := 4) hx hb dX5_vectorsIn_83 (by decide) ?_
                exact ih_1 (k + 1) ls (by omega) (by omega) (lv_sub hl [2, 3, 1, 0] rfl)
              · refine lv_iconst (v := nI 1) hx hb dX5_vectorsIn_71 (by decide) ?_
                refine lv_iload_n hx hb dX5_vectorsIn_72 rfl (lv_at hl 3 rfl) ?_
                refine lv_ishl hx hb dX5_vectorsIn_73 ?_
                refine e_i (y := nI (2 ^ k)) (n_shl1 (by omega)) ?_
                refine lv_goto (tgt := 78) hx hb dX5_vectorsIn_74 (by decide) ?_
                refine lv_ior hx hb dX5_vectorsIn_78 ?_
                refine e_i (y := nI ((vinC M (p0 + q0 + r0) k) ||| (2 ^ k))) (n_or _ _) ?_
                refine e_i (y := nI (vinC M (p0 + q0 + r0) (k + 1))) (n_eq (by show _ = vinC M (p0 + q0 + r0) k ||| (if allB M k (2 ^ (p0 + q0 + r0)) = true then 2 ^ k else 0); rw [bI_1 c_68, if_pos rfl])) ?_
                refine lv_istore_n (lv' := [(2, .int (nI (vinC M (p0 + q0 + r0) (k + 1)))), (0, .ref ga), (1, .ref ma), (3, .int (nI k)), (4, .int (bI (allB M k (2 ^ (p0 + q0 + r0))))), (5, .int (nI (2 ^ (p0 + q0 + r0))))]) hx hb dX5_vectorsIn_79 rfl hl (by decide) rfl (fun ls hl => ?_)
                refine lv_iinc (v := nI (k + 1)) (lv' := [(3, .int (nI (k + 1))), (2, .int (nI (vinC M (p0 + q0 + r0) (k + 1)))), (0, .ref ga), (1, .ref ma), (4, .int (bI (allB M k (2 ^ (p0 + q0 + r0))))), (5, .int (nI (2 ^ (p0 + q0 + r0))))]) hx hb dX5_vectorsIn_80 hl (k := 3) rfl (by exact nI_add _ 1) (by decide) rfl (fun ls hl => ?_)
                refine lv_goto (tgt := 4) hx hb dX5_vectorsIn_83 (by decide) ?_
                exact ih_1 (k + 1) ls (by omega) (by omega) (lv_sub hl [2, 3, 1, 0] rfl)
            · have c_24 : ¬ (2 ^ (p0 + q0 + r0) - 1) < b := fun h => c_24 ((nI_ltI (a := (2 ^ (p0 + q0 + r0) - 1)) (b := b) (by omega) (by omega)).mpr h)
              have hb9 : b < 32 := by omega
              refine lv_iload hx hb dX5_vectorsIn_27 (lv_at hl 4 rfl) ?_
              refine lv_iload hx hb dX5_vectorsIn_29 (lv_at hl 5 rfl) ?_
              refine lv_iload_n hx hb dX5_vectorsIn_31 rfl (lv_at hl 3 rfl) ?_
              refine lv_ishr hx hb dX5_vectorsIn_32 ?_
              refine e_i (y := nI (b / 2 ^ k)) (n_shr (by omega) (by omega)) ?_
              refine lv_iconst (v := nI 1) hx hb dX5_vectorsIn_33 (by decide) ?_
              refine lv_iand hx hb dX5_vectorsIn_34 ?_
              refine e_i (y := nI ((b / 2 ^ k) &&& 1)) (n_and _ _) ?_
              refine lv_iconst (v := nI 1) hx hb dX5_vectorsIn_35 (by decide) ?_
              refine lv_icmp_eq (tgt := 51) hx hb dX5_vectorsIn_36 (by decide) (fun c_36 => ?_) (fun c_36 => ?_)
              · have c_36 : ((b / 2 ^ k) &&& 1) = 1 := (nI_eq (a := ((b / 2 ^ k) &&& 1)) (b := 1) (Nat.lt_of_le_of_lt Nat.and_le_right (by decide)) (by omega)).mp c_36
                refine lv_iconst (v := nI 1) hx hb dX5_vectorsIn_51 (by decide) ?_
                refine lv_goto (tgt := 56) hx hb dX5_vectorsIn_52 (by decide) ?_
                refine lv_iand hx hb dX5_vectorsIn_56 ?_
                refine e_i (y := bI (allB M k (b + 1))) ((by show _ = bI (allB M k b && (decide (b / 2 ^ k &&& 1 = 1) || decide (M (b + 1) = 0))); rw [decide_eq_true c_36, Bool.true_or, Bool.and_true]; exact bI_and1 _)) ?_
                refine lv_istore (lv' := [(4, .int (bI (allB M k (b + 1)))), (0, .ref ga), (1, .ref ma), (2, .int (nI (vinC M (p0 + q0 + r0) k))), (3, .int (nI k)), (5, .int (nI b))]) hx hb dX5_vectorsIn_57 hl (by decide) rfl (fun ls hl => ?_)
                refine lv_iinc (v := nI (b + 1)) (lv' := [(5, .int (nI (b + 1))), (4, .int (bI (allB M k (b + 1)))), (0, .ref ga), (1, .ref ma), (2, .int (nI (vinC M (p0 + q0 + r0) k))), (3, .int (nI k))]) hx hb dX5_vectorsIn_59 hl (k := 5) rfl (by exact nI_add _ 1) (by decide) rfl (fun ls hl => ?_)
                refine lv_goto (tgt := 18) hx hb dX5_vectorsIn_62 (by decide) ?_
                exact ih_2 (b + 1) ls (by omega) (by omega) (lv_sub hl [2, 3, 4, 5, 1, 0] rfl)
              · have c_36 : ¬ ((b / 2 ^ k) &&& 1) = 1 := fun h => c_36 ((nI_eq (a := ((b / 2 ^ k) &&& 1)) (b := 1) (Nat.lt_of_le_of_lt Nat.and_le_right (by decide)) (by omega)).mpr h)
                refine lv_aload_n hx hb dX5_vectorsIn_39 rfl (lv_at hl 1 rfl) ?_
                refine va_getN (D := (dC, dI)) (ci := 0) (v := .ref mr) (C := RX6) (T := TX6) (N := 2) hx hb hts in_X6 hown hK hP 1 rfl rfl 0 (by decide) (((va_Nw.warmF hG.1 (va_Nw.of rfl (Z.2.1 _ q551)))).use rfl) (fun _ h9 => h9) rfl dX5_vectorsIn_40 ?_
                refine lv_iload hx hb dX5_vectorsIn_43 (lv_at hl 5 rfl) ?_
                refine a_lald hx hb hK hP 2 1 rfl rfl (by omega) (by omega) dX5_vectorsIn_45 ?_
                refine lv_lconst (v := 0) hx hb dX5_vectorsIn_46 rfl ?_
                refine W.lcmp hx hb dX5_vectorsIn_47 ?_
                refine lv_if_ne (tgt := 55) hx hb dX5_vectorsIn_48 (by decide) (fun c_48 => ?_) (fun c_48 => ?_)
                · have c_48 : ¬ ((fun j => M (j + 1)) b) = 0 := fun h => c_48 ((lg_cmp_eq _ _).mpr h)
                  refine lv_iconst (v := nI 0) hx hb dX5_vectorsIn_55 (by decide) ?_
                  refine lv_iand hx hb dX5_vectorsIn_56 ?_
                  refine e_i (y := bI (allB M k (b + 1))) ((by show _ = bI (allB M k b && (decide (b / 2 ^ k &&& 1 = 1) || decide (M (b + 1) = 0))); rw [decide_eq_false c_36, decide_eq_false c_48, Bool.or_false, Bool.and_false]; exact bI_and0 _)) ?_
                  refine lv_istore (lv' := [(4, .int (bI (allB M k (b + 1)))), (0, .ref ga), (1, .ref ma), (2, .int (nI (vinC M (p0 + q0 + r0) k))), (3, .int (nI k)), (5, .int (nI b))]) hx hb dX5_vectorsIn_57 hl (by decide) rfl (fun ls hl => ?_)
                  refine lv_iinc (v := nI (b + 1)) (lv' := [(5, .int (nI (b + 1))), (4, .int (bI (allB M k (b + 1)))), (0, .ref ga), (1, .ref ma), (2, .int (nI (vinC M (p0 + q0 + r0) k))), (3, .int (nI k))]) hx hb dX5_vectorsIn_59 hl (k := 5) rfl (by exact nI_add _ 1) (by decide) rfl (fun ls hl => ?_)
                  refine lv_goto (tgt := 18) hx hb dX5_vectorsIn_62 (by decide) ?_
                  exact ih_2 (b + 1) ls (by omega) (by omega) (lv_sub hl [2, 3, 4, 5, 1, 0] rfl)
                · have c_48 : ((fun j => M (j + 1)) b) = 0 := (lg_cmp_eq _ _).mp c_48
                  refine lv_iconst (v := nI 1) hx hb dX5_vectorsIn_51 (by decide) ?_
                  refine lv_goto (tgt := 56) hx hb dX5_vectorsIn_52 (by decide) ?_
                  refine lv_iand hx hb dX5_vectorsIn_56 ?_
                  refine e_i (y := bI (allB M k (b + 1))) ((by show _ = bI (allB M k b && (decide (b / 2 ^ k &&& 1 = 1) || decide (M (b + 1) = 0))); rw [decide_eq_true c_48, Bool.or_true, Bool.and_true]; exact bI_and1 _)) ?_
                  refine lv_istore (lv' := [(4, .int (bI (allB M k (b + 1)))), (0, .ref ga), (1, .ref ma), (2, .int (nI (vinC M (p0 + q0 + r0) k))), (3, .int (nI k)), (5, .int (nI b))]) hx hb dX5_vectorsIn_57 hl (by decide) rfl (fun ls hl => ?_)
                  refine lv_iinc (v := nI (b + 1)) (lv' := [(5, .int (nI (b + 1))), (4, .int (bI (allB M k (b + 1)))), (0, .ref ga), (1, .ref ma), (2, .int (nI (vinC M (p0 + q0 + r0) k))), (3, .int (nI k))]) hx hb dX5_vectorsIn_59 hl (k := 5) rfl (by exact nI_add _ 1) (by decide) rfl (fun ls hl => ?_)
                  refine lv_goto (tgt := 18) hx hb dX5_vectorsIn_62 (by decide) ?_
                  exact ih_2 (b + 1) ls (by omega) (by omega) (lv_sub hl [2, 3, 4, 5, 1, 0] rfl)
        exact loop_2 _ 0 ls (Nat.lt_succ_self _) (by omega) (lv_sub hl [2, 3, 4, 5, 1, 0] rfl)
  exact loop_1 _ 0 ls (Nat.lt_succ_self _) (by omega) (lv_sub hl [2, 3, 1, 0] rfl)
set_option maxHeartbeats 4000000 in
theorem x5_isBlade {l : Launch} {dC : Nat → ClassId} {dI : Nat → Nat → Nat} {dA : Nat → ClassId} {s0 : State} {b0 : Addr} (Z : Z0 l dC dI dA s0 b0) (A : Nat → Prop) (sz : Nat) (hA : ∀ q : Nat, sz ≤ q → A q) {σ : Nat → Nat} (Y : SS (dC, dI) dA σ s0) (ga sg : Nat) (sr : Nat → Nat) (p0 q0 r0 : Nat) (ma mr : Nat) (M : MV) (sM : MSm M) : Met l yX5_isBlade_2 (ws_ yX5_isBlade_2 cX5_isBlade_2 5 (some .boolean)) ({ frames := 4, cells := 32, slots := 160, locals := 240 } : Room) (gP [.ref ga, .ref ma] s0 A (fun H => H.size = sz ∧ RO A (dC, dI) [(ma, .inr (0, [.ref mr, .long (M 0)])), (mr, .inl (dA 1, 32, .inr (.inl (fun j => M (j + 1)))))] H ∧ AG A (dC, dI) dA ga sg sr p0 q0 r0 H)) (va_Qi (S := Unit) (fun r _ => r = bI (oneB (p0 + q0 + r0) M)) (B1 (dC, dI) A (fun _ => []) (fun _ _ => True)) A) 32 160 A := by
  refine Met.ofW (cc := cX5_isBlade_2) (maxL := 5) (ret := (some .boolean)) (by decide) rfl ?_
  intro p e s m args below meth c s₁ B hml hv
  obtain ⟨hav, hG, hsz, hR0, hAG⟩ := hv
  have hx := B.exec
  have hb := B.bytes
  have hr := B.returns
  have hts := atoms_spec (ws := (ws_ yX5_isBlade_2 cX5_isBlade_2 5 (some .boolean))) B.pre
  have hts : ∀ w ∈ lw_all, w.before _ s = true := fun w h => hts w (List.mem_cons_of_mem _ h)
  have hown : s.vm.findClass RX5 = some m.cls := findClass_of_methodNamed B.named
  have hlocks := B.notSynchronized
  have hK := hG.K Z
  subst hsz
  have hS : va_S A s.heap s.heap [] := va_S.rf
  have hP : va_P (dC, dI) vwCl [] s.heap := fun k q h => by simp at h
  have hD : va_D A [] := ⟨fun i j p q h => by simp at h, fun k q h => by simp at h⟩
  have hl := lv_entry ([.ref ga, .ref ma]) (n := 5) (Nat.le_of_ble_eq_true rfl)
  rw [show entryFrame m args 5 = entryFrame m ([.ref ga, .ref ma] : List Value).toArray 5 from by rw [hav], lg_entry_eq]
  generalize (lg_sl ([.ref ga, .ref ma]) ++ List.replicate (5 - (lg_sl ([.ref ga, .ref ma])).length) Slot.unset).toArray = ls at hl ⊢
  have hl : lv_has ls 5 [(0, .ref ga), (1, .ref ma)] := hl
  generalize hQe : MQ below _ _ s _ _ _ = Q
  change W p l e ({ frames := 4, cells := 32, slots := 160, locals := 240 } : Room) s m args below meth c s.heap [] 0 0 Q (F0 m 0 ls [])
  have hn := hAG.1
  have h5 := pow5 hn
  have hR1 := hAG.2.1
  obtain ⟨gr, Yg⟩ : ∃ g, SG (dC, dI) dA g s0 := ⟨_, SS.gr Y⟩
  have hR2 := hG.RO Yg.2
  have hg8 : grS M < 64 := grN_lt M 32 (by decide)
  refine lv_aload_n hx hb dX5_isBlade_2_0 rfl (lv_at hl 1 rfl) ?_
  refine s_i (va_runV (As := []) (rest := []) ⟨hx, hb, hml, hown, hts⟩ (x6_grades Z gr Yg ma mr M) (cwV 0 hts (lw_V q882 q772 q773 q102 q774) rfl rfl rfl (by decide +kernel) ⟨Nat.le_of_ble_eq_true rfl, Nat.le_of_ble_eq_true rfl⟩) (gP_V (va_recv hK (hR0.up hS) (ci := 0) (q0 := 0) rfl rfl) hG hS (fun q _ h => h.elim) ((hR0.up hS).sub (ws' := [(ma, .inr (0, [.ref mr, .long (M 0)])), (mr, .inl (dA 1, 32, .inr (.inl (fun j => M (j + 1)))))]) [0, 1] rfl)) rfl rfl hl.1 rfl (lv_room (Nat.le_of_ble_eq_true rfl)) dX5_isBlade_2_1 ⟨by first | decide | omega | (show _ ≤ (32 : Nat); omega), by first | decide | omega | (show _ ≤ (160 : Nat); omega)⟩) ?_
  refine lv_istore_n (lv' := [(2, .int (nI (grS M))), (0, .ref ga), (1, .ref ma)]) hx hb dX5_isBlade_2_4 rfl hl (by decide) rfl (fun ls hl => ?_)
  refine lv_iconst (v := nI 0) hx hb dX5_isBlade_2_5 (by decide) ?_
  refine lv_istore_n (lv' := [(3, .int (nI 0)), (2, .int (nI (grS M))), (0, .ref ga), (1, .ref ma)]) hx hb dX5_isBlade_2_6 rfl hl (by decide) rfl (fun ls hl => ?_)
  have hl2 := hg8
  have loop_1 : ∀ (n9_1 : Nat) (k : Nat) (H : Heap) (locs : List Loc) (ls : Array Slot), 6 - k < n9_1 → (k ≤ 5) → (k = 0 ∨ 1 < grS M / 2 ^ (k - 1)) → va_P (dC, dI) vwCl [] H → va_D A [] → va_S A s.heap H locs → lv_has ls 5 [(0, .ref ga), (1, .ref ma), (2, .int (nI (grS M))), (3, .int (nI k))] → W p l e ({ frames := 4, cells := 32, slots := 160, locals := 240 } : Room) s m args below meth c H locs 0 0 Q (F0 m 7 ls []) := by
    intro n9_1
    induction n9_1 with
    | zero => intro k H locs ls hm_1; exact absurd hm_1 (Nat.not_lt_zero _)
    | succ n9_1 ih_1 =>
      intro k H locs ls hm_1 hk5 hkk hP hD hS hl
      have hgd : grS M / 2 ^ k < 64 := Nat.lt_of_le_of_lt (Nat.div_le_self _ _) hg8
      have h2k := (pow5 hk5).1
      refine lv_iload_n hx hb dX5_isBlade_2_7 rfl (lv_at hl 2 rfl) ?_
      refine lv_iload_n hx hb dX5_isBlade_2_8 rfl (lv_at hl 3 rfl) ?_
      refine lv_ishr hx hb dX5_isBlade_2_9 ?_
      refine e_i (y := nI ((grS M) / 2 ^ k)) (n_shr (by omega) (by omega)) ?_
      refine lv_iconst (v := nI 1) hx hb dX5_isBlade_2_10 (by decide) ?_
      refine lv_icmp_le (tgt := 20) hx hb dX5_isBlade_2_11 (by decide) (fun c_11 => ?_) (fun c_11 => ?_)
      · have c_11 : ((grS M) / 2 ^ k) ≤ 1 := (nI_leI (a := ((grS M) / 2 ^ k)) (b := 1) (by omega) (by omega)).mp c_11
        refine lv_iload_n hx hb dX5_isBlade_2_20 rfl (lv_at hl 2 rfl) ?_
        refine lv_iconst (v := nI 1) hx hb dX5_isBlade_2_21 (by decide) ?_
        refine lv_iload_n hx hb dX5_isBlade_2_22 rfl (lv_at hl 3 rfl) ?_
        refine lv_ishl hx hb dX5_isBlade_2_23 ?_
        refine e_i (y := nI (2 ^ k)) (n_shl1 (by omega)) ?_
        refine lv_icmp_eq (tgt := 29) hx hb dX5_isBlade_2_24 (by decide) (fun c_24 => ?_) (fun c_24 => ?_)
        · have c_24 : (grS M) = (2 ^ k) := (nI_eq (a := (grS M)) (b := (2 ^ k)) (by omega) (by omega)).mp c_24
          have hgk : grS M = 2 ^ k := c_24
          refine lv_iconst (v := nI 0) hx hb dX5_isBlade_2_29 (by decide) ?_
          refine lv_istore (lv' := [(4, .int (nI 0)), (0, .ref ga), (1, .ref ma), (2, .int (nI (grS M))), (3, .int (nI k))]) hx hb dX5_isBlade_2_30 hl (by decide) rfl (fun ls hl => ?_)
          have hpk : popc (grS M) = 1 ∧ popc (grS M - 1) = k := by rw [hgk]; exact pc_2k hk5
          have loop_2 : ∀ (n9_2 : Nat) (b : Nat) (H : Heap) (locs : List Loc) (ls : Array Slot), 33 - b < n9_2 → (b ≤ 2 ^ (p0 + q0 + r0)) → (oneN M (p0 + q0 + r0) k b = true) → va_P (dC, dI) vwCl [] H → va_D A [] → va_S A s.heap H locs → lv_has ls 5 [(0, .ref ga), (1, .ref ma), (2, .int (nI (grS M))), (3, .int (nI k)), (4, .int (nI b))] → W p l e ({ frames := 4, cells := 32, slots := 160, locals := 240 } : Room) s m args below meth c H locs b (5 * b) Q (F0 m 32 ls []) := by
            intro n9_2
            induction n9_2 with
            | zero => intro b H locs ls hm_2; exact absurd hm_2 (Nat.not_lt_zero _)
            | succ n9_2 ih_2 =>
              intro b H locs ls hm_2 hb8 ho9 hP hD hS hl
              refine lv_iload hx hb dX5_isBlade_2_32 (lv_at hl 4 rfl) ?_
              refine lv_aload_n hx hb dX5_isBlade_2_34 rfl (lv_at hl 0 rfl) ?_
              refine va_get (D := (dC, dI)) (ci := 1) (v := .int (nI (2 ^ (p0 + q0 + r0) - 1))) (C := RX5) (T := TX5) (N := 6) hx hb hts in_X5 hown hK (hR1.up hS) 0 rfl rfl 4 (by decide) (hts _ q211) (fun _ h9 => h9) rfl dX5_isBlade_2_35 ?_
              refine lv_icmp_gt (tgt := 76) hx hb dX5_isBlade_2_38 (by decide) (fun c_38 => ?_) (fun c_38 => ?_)
              · have c_38 : (2 ^ (p0 + q0 + r0) - 1) < b := (nI_ltI (a := (2 ^ (p0 + q0 + r0) - 1)) (b := b) (by omega) (by omega)).mp c_38
                obtain rfl : b = 2 ^ (p0 + q0 + r0) := by omega
                refine lv_iconst (v := nI 1) hx hb dX5_isBlade_2_76 (by decide) ?_
                subst hQe
                refine W.widen (k := 32) (n := 160) (by first | decide | omega) (by first | decide | omega) ?_
                exact W.zret (v := nI 1) hx hb hr rfl (fun tz ht hW => ⟨⟨_, (), rfl, (by unfold oneB; rw [hpk.1, hpk.2, ho9]; rfl), B1_at ht (hP.sub [] rfl) (hD.sub [] (by decide) rfl) trivial⟩, hS.F ht⟩) hS.2.2 dX5_isBlade_2_77
              · have c_38 : ¬ (2 ^ (p0 + q0 + r0) - 1) < b := fun h => c_38 ((nI_ltI (a := (2 ^ (p0 + q0 + r0) - 1)) (b := b) (by omega) (by omega)).mpr h)
                have hb9 : b < 32 := by omega
                refine va_getsN (v := .ref gr) hx hb (hG.Z Z Yg.1) hS hown (((va_Nw.warmF hG.1 (va_Nw.of rfl (Z.2.1 _ q198)))).use rfl) (fun _ h9 => h9) dX5_isBlade_2_41 ?_
                refine lv_iload hx hb dX5_isBlade_2_44 (lv_at hl 4 rfl) ?_
                refine a_iald hx hb hK (hR2.up hS) 0 0 rfl rfl (by omega) (by omega) dX5_isBlade_2_46 ?_
                refine e_i (y := nI (popc b)) (rfl) ?_
                refine lv_iload_n hx hb dX5_isBlade_2_47 rfl (lv_at hl 3 rfl) ?_
                refine lv_iconst (v := nI 1) hx hb dX5_isBlade_2_48 (by decide) ?_
                refine lv_isub hx hb dX5_isBlade_2_49 ?_
                refine lv_icmp_ne (tgt := 70) hx hb dX5_isBlade_2_50 (by decide) (fun c_50 => ?_) (fun c_50 => ?_)
                · have hon : (decide (¬ popc b + 1 = k) || lieN M b k (p0 + q0 + r0) (2 ^ (p0 + q0 + r0))) = true := by rw [decide_eq_true (p := ¬ popc b + 1 = k) (fun h => c_50 ((tk_l (by omega) (by omega) (by have := popc_le5 b hb9; omega)).mpr h)), Bool.true_or]
                  refine lv_iinc (v := nI (b + 1)) (lv' := [(4, .int (nI (b + 1))), (0, .ref ga), (1, .ref ma), (2, .int (nI (grS M))), (3, .int (nI k))]) hx hb dX5_isBlade_2_70 hl (k := 4) rfl (by exact nI_add _ 1) (by decide) rfl (fun ls hl => ?_)
                  refine lv_goto (tgt := 32) hx hb dX5_isBlade_2_73 (by decide) ?_
                  refine W.widen (k := b + 1) (n := 5 * (b + 1)) (by omega) (by omega) ?_
                  exact ih_2 (b + 1) H locs ls (by omega) (by omega) (by show (oneN M _ k b && _) = true; rw [ho9, Bool.true_and]; exact hon) (hP.sub [] rfl) (hD.sub [] (by decide) rfl) hS (lv_sub hl [1, 2, 3, 4, 0] rfl)
                · have hpb : popc b + 1 = k := (tk_l (by have := popc_le5 b hb9; omega) (by omega) (by omega)).mp c_50
                  refine lv_aload_n hx hb dX5_isBlade_2_53 rfl (lv_at hl 0 rfl) ?_
                  refine lv_aload_n hx hb dX5_isBlade_2_54 rfl (lv_at hl 0 rfl) ?_
                  refine lv_aload_n hx hb dX5_isBlade_2_55 rfl (lv_at hl 1 rfl) ?_
                  refine lv_iload hx hb dX5_isBlade_2_56 (lv_at hl 4 rfl) ?_
                  have hF9 := va_free (wc := []) hD hS (fun q h => hA q h) [] rfl
                  refine c_r (wr := []) (va_runV (As := [.ref ma, .int (nI b)]) (rest := [.ref ga]) ⟨hx, hb, hml, hown, hts⟩ (x5_left Z (va_A [] H.size) H.size (fun q h => Or.inr h) Y ga sg sr p0 q0 r0 ma mr M b hn (by omega)) (cwV 2 hts (lw_V q883 q884 q885 q101 q886) rfl rfl rfl (by decide +kernel) ⟨Nat.le_of_ble_eq_true rfl, Nat.le_of_ble_eq_true rfl⟩) (gP_V (va_recv hK (hR1.up hS) (ci := 1) (q0 := 0) rfl rfl) hG hS (fun q _ h => hF9 q h) ⟨rfl, ((hR1.to hS (fun q _ h => hF9 q h)).sub [0] rfl), (hR0.to hS (fun q _ h => hF9 q h))⟩) rfl rfl hl.1 rfl (lv_room (Nat.le_of_ble_eq_true rfl)) dX5_isBlade_2_58 ⟨by first | decide | omega | (show _ ≤ (32 : Nat); omega), by first | decide | omega | (show _ ≤ (160 : Nat); omega)⟩) hP hD hS hA [] [] rfl rfl (by decide) (by decide) (fun u9 ra9 H locs hq hX hz hk hP hD hS => ?_)
                  obtain ⟨ra_3, rfl⟩ : ∃ z, z = ra9 := ⟨_, rfl⟩
                  have hP : va_P (dC, dI) vwCl [(ra_3, .inl (dA 1, 5, .inr (.inl (tabS (facV M b) (p0 + q0 + r0)))))] H := hP
                  have hD : va_D A [(ra_3, .inl (dA 1, 5, .inr (.inl (tabS (facV M b) (p0 + q0 + r0)))))] := hD
                  refine lv_aload_n hx hb dX5_isBlade_2_61 rfl (lv_at hl 1 rfl) ?_
                  refine s_i (va_runV (As := [.ref ra_3, .ref ma]) (rest := []) ⟨hx, hb, hml, hown, hts⟩ (x5_isOuterZero Z Y ga sg sr p0 q0 r0 ra_3 (tabS (facV M b) (p0 + q0 + r0)) ma mr M hn) (cwV 2 hts (lw_V q887 q889 qs7 q101 q890) rfl rfl rfl (by decide +kernel) ⟨Nat.le_of_ble_eq_true rfl, Nat.le_of_ble_eq_true rfl⟩) (gP_V (va_recv hK (hR1.up hS) (ci := 1) (q0 := 0) rfl rfl) hG hS (fun q _ h => h.elim) (va_P.app (va_P.app ((hR1.up hS).sub (ws' := [(ga, .inr (1, [.int (nI p0), .int (nI q0), .int (nI r0), .int (nI (p0 + q0 + r0)), .int (nI (2 ^ (p0 + q0 + r0) - 1)), .ref sg]))]) [0] rfl) (hP.sub (ws' := [(ra_3, .inl (dA 1, 5, .inr (.inl (tabS (facV M b) (p0 + q0 + r0)))))]) [0] rfl)) ((hR0.up hS).sub (ws' := [(ma, .inr (0, [.ref mr, .long (M 0)])), (mr, .inl (dA 1, 32, .inr (.inl (fun j => M (j + 1)))))]) [0, 1] rfl))) rfl rfl hl.1 rfl (lv_room (Nat.le_of_ble_eq_true rfl)) dX5_isBlade_2_62 ⟨by first | decide | omega | (show _ ≤ (32 : Nat); omega), by first | decide | omega | (show _ ≤ (160 : Nat); omega)⟩) ?_
                  refine lv_if_ne (tgt := 70) hx hb dX5_isBlade_2_65 (by decide) (fun c_65 => ?_) (fun c_65 => ?_)
                  · have hon : (decide (¬ popc b + 1 = k) || lieN M b k (p0 + q0 + r0) (2 ^ (p0 + q0 + r0))) = true := by rw [← oz_lie hn hgk hpb, bI_1 c_65, Bool.or_true]
                    refine lv_iinc (v := nI (b + 1)) (lv' := [(4, .int (nI (b + 1))), (0, .ref ga), (1, .ref ma), (2, .int (nI (grS M))), (3, .int (nI k))]) hx hb dX5_isBlade_2_70 hl (k := 4) rfl (by exact nI_add _ 1) (by decide) rfl (fun ls hl => ?_)
                    refine lv_goto (tgt := 32) hx hb dX5_isBlade_2_73 (by decide) ?_
                    refine W.widen (k := b + 1) (n := 5 * (b + 1)) (by omega) (by omega) ?_
                    exact ih_2 (b + 1) H locs ls (by omega) (by omega) (by show (oneN M _ k b && _) = true; rw [ho9, Bool.true_and]; exact hon) (hP.sub [] rfl) (hD.sub [] (by decide) rfl) hS (lv_sub hl [1, 2, 3, 4, 0] rfl)
                  · refine lv_iconst (v := nI 0) hx hb dX5_isBlade_2_68 (by decide) ?_
                    subst hQe
                    refine W.widen (k := 32) (n := 160) (by first | decide | omega) (by first | decide | omega) ?_
                    exact W.zret (v := nI 0) hx hb hr rfl (fun tz ht hW => ⟨⟨_, (), rfl, (by unfold oneB; rw [hpk.2, oneN_mono (show oneN M (p0 + q0 + r0) k (b + 1) = false from (by show (oneN M _ k b && (decide (¬ popc b + 1 = k) || lieN M b k _ _)) = false; rw [← oz_lie hn hgk hpb, bI_0 c_65, decide_eq_false (p := ¬ popc b + 1 = k) (fun h => h hpb), Bool.or_false, Bool.and_false])) (by omega), Bool.and_false]; rfl), B1_at ht (hP.sub [] rfl) (hD.sub [] (by decide) rfl) trivial⟩, hS.F ht⟩) hS.2.2 dX5_isBlade_2_69
          exact loop_2 _ 0 H locs ls (Nat.lt_succ_self _) (by omega) rfl hP hD hS (lv_sub hl [1, 2, 3, 4, 0] rfl)
        · have c_24 : ¬ (grS M) = (2 ^ k) := fun h => c_24 ((nI_eq (a := (grS M)) (b := (2 ^ k)) (by omega) (by omega)).mpr h)
          refine lv_iconst (v := nI 0) hx hb dX5_isBlade_2_27 (by decide) ?_
          subst hQe
          refine W.widen (k := 32) (n := 160) (by first | decide | omega) (by first | decide | omega) ?_
          exact W.zret (v := nI 0) hx hb hr rfl (fun tz ht hW => ⟨⟨_, (), rfl, (by rw [ob_no hg8 hk5 hkk c_11 c_24]; rfl), B1_at ht (hP.sub [] rfl) (hD.sub [] (by decide) rfl) trivial⟩, hS.F ht⟩) hS.2.2 dX5_isBlade_2_28
      · have c_11 : ¬ ((grS M) / 2 ^ k) ≤ 1 := fun h => c_11 ((nI_leI (a := ((grS M) / 2 ^ k)) (b := 1) (by omega) (by omega)).mpr h)
        have c_11n : 1 < grS M / 2 ^ (k + 1 - 1) := by rw [Nat.add_sub_cancel]; omega
        have hk6 : k + 1 ≤ 5 := lg_k hg8 hk5 (by omega)
        refine lv_iinc (v := nI (k + 1)) (lv' := [(3, .int (nI (k + 1))), (0, .ref ga), (1, .ref ma), (2, .int (nI (grS M)))]) hx hb dX5_isBlade_2_14 hl (k := 3) rfl (by exact nI_add _ 1) (by decide) rfl (fun ls hl => ?_)
        refine lv_goto (tgt := 7) hx hb dX5_isBlade_2_17 (by decide) ?_
        exact ih_1 (k + 1) H locs ls (by omega) hk6 (Or.inr c_11n) (hP.sub [] rfl) (hD.sub [] (by decide) rfl) hS (lv_sub hl [1, 2, 3, 0] rfl)
  exact loop_1 _ 0 s.heap [] ls (Nat.lt_succ_self _) (by omega) (Or.inl rfl) hP hD hS (lv_sub hl [2, 3, 1, 0] rfl)
