/-! answers of the questions, and of the conformal operations -/
abbrev IX : Type := Int32 × Int32
def blB (p q r : Nat) (b : Int32) : Bool := inB b (nI 0) (nI (2 ^ (p + q + r) - 1))
def numX (p q r : Nat) (Ms : Nat → MV) (a b : Int32) : IX := if (rgB a && blB p q r b) = false then (nI 1, nI 0) else (nI 0, (Ms (rg a) (b.toNatClampNeg + 1) / gcdL (Ms (rg a) 0) (Ms (rg a) (b.toNatClampNeg + 1))).toInt32)
def denX (p q r : Nat) (Ms : Nat → MV) (a b : Int32) : IX := if (rgB a && blB p q r b) = false then (nI 1, nI 0) else (nI 0, (Ms (rg a) 0 / gcdL (Ms (rg a) 0) (Ms (rg a) (b.toNatClampNeg + 1))).toInt32)
def cdnX (Ms : Nat → MV) (a : Int32) : IX := if rgB a = false then (nI 1, nI 0) else (nI 0, (Ms (rg a) 0).toInt32)
def sgnX (p q r : Nat) (a b : Int32) : IX := if (blB p q r a && blB p q r b) = false then (nI 1, nI 0) else (nI 0, sgS p q r a.toNatClampNeg b.toNatClampNeg)
def grsX (Ms : Nat → MV) (a : Int32) : IX := if rgB a = false then (nI 1, nI 0) else (nI 0, nI (grS (Ms (rg a))))
def eqX (Ms : Nat → MV) (a b : Int32) : IX := if (rgB a && rgB b) = false then (nI 1, nI 0) else (nI 0, bI (likeB (Ms (rg a)) (Ms (rg b)) 33))
def sigX (p q r : Nat) (w : Int32) : IX := if inB w (nI 0) (nI 3) = false then (nI 1, nI 0) else (nI 0, if w = nI 0 then nI p else if w = nI 1 then nI q else if w = nI 2 then nI r else nI (p + q + r))
def comX (p q r : Nat) (Ms : Nat → MV) (a b : Int32) : IX := if (rgB a && rgB b) = false then (nI 1, nI 0) else match mulS 2 p q r (Ms (rg a)) (Ms (rg b)) with
  | none => (nI 2, nI 0)
  | some P => match mulS 2 p q r (Ms (rg b)) (Ms (rg a)) with
    | none => (nI 2, nI 0)
    | some T => (nI 0, bI (likeB P T 33))
/-- the vectors in all of the first k blades that are there -/
def vinN (M : MV) (full : Nat) : Nat → Nat
  | 0 => full
  | k + 1 => if M (k + 1) = 0 then vinN M full k else vinN M full k &&& k
theorem vinN_le (M : MV) (full : Nat) : ∀ k, vinN M full k ≤ full
  | 0 => Nat.le_refl _
  | k + 1 => by
    show (if M (k + 1) = 0 then vinN M full k else vinN M full k &&& k) ≤ full
    have := vinN_le M full k
    split
    · exact this
    · exact Nat.le_trans Nat.and_le_left this
def vinX (p q r : Nat) (Ms : Nat → MV) (a : Int32) : IX := if rgB a = false then (nI 1, nI 0) else (nI 0, nI (vinN (Ms (rg a)) (2 ^ (p + q + r) - 1) (2 ^ (p + q + r))))
def sqkX (p q r : Nat) (Ms : Nat → MV) (a : Int32) : IX := if rgB a = false then (nI 1, nI 0) else match mulS 2 p q r (Ms (rg a)) (Ms (rg a)) with
  | none => (nI 2, nI 0)
  | some P => (nI 0, if grS P &&& 62 = 0 then (if 0 < P 1 then nI 1 else if P 1 < 0 then nI 2 else nI 3) else nI 0)
/-- a void operation that may write one register -/
def VPost (fA : Nat → Int64) (t : Nat) (x : CO) (th : Int32) (fA' : Nat → Int64) : Prop := th = x.1 ∧ ((∃ P, x.2 = some P ∧ Hold fA' t P ∧ Kp fA fA' (fun k => outH k ∧ k ≠ t)) ∨ (x.2 = none ∧ Kp fA fA' outH))
theorem VPost.mk1 {fA fA' : Nat → Int64} {t : Nat} {x : CO} {P : MV} (e : x = (nI 0, some P)) (h : Hold fA' t P) (k : Kp fA fA' (fun k => outH k ∧ k ≠ t)) : VPost fA t x (nI 0) fA' := ⟨by rw [e], Or.inl ⟨P, by rw [e], h, k⟩⟩
theorem VPost.mk0 {fA fA' : Nat → Int64} {t : Nat} {x : CO} {c : Int32} (e : x = (c, none)) (k : Kp fA fA' outH) : VPost fA t x c fA' := ⟨by rw [e], Or.inr ⟨by rw [e], k⟩⟩
def setR (b : Nat) (x y : Int64) (M : MV) : Nat → Int64 := fun j => if j = b then x * M 0 else M (j + 1) * y
def setX (p q r : Nat) (Ms : Nat → MV) (t b x y : Int32) : CO := if (rgB t && blB p q r b) = false then (nI 1, none) else if (smallB x.toInt64 && inB y (nI 1) (nI 10000)) = false then (nI 2, none) else optC (nI 3) (fitS (Ms (rg t) 0 * y.toInt64) (setR b.toNatClampNeg x.toInt64 y.toInt64 (Ms (rg t))))
def cpyX (Ms : Nat → MV) (t a : Int32) : CO := if (rgB t && rgB a) = false then (nI 1, none) else (nI 0, some (Ms (rg a)))
theorem setR_nm {b : Nat} {x y : Int64} (hx : sm8 x) (hy : sm8 y) {M : MV} (hM : MSm M) {j : Nat} (hj : j < 32) : setR b x y M j ≠ Int64.minValue := by
  unfold setR; split
  · exact ne_min_of (mul_b (A := 100000000) (B := 100000000) hx hM.u (by decide)).2 (by decide)
  · exact ne_min_of (mul_b (A := 100000000) (B := 100000000) (hM.2.2 j hj) hy (by decide)).2 (by decide)
theorem mul_pos8 {x y : Int64} (hx : 0 < x.toInt ∧ x.toInt ≤ 100000000) (hy : 0 < y.toInt ∧ y.toInt ≤ 100000000) : 0 < (x * y).toInt := by
  have h := mul_b (x := x) (y := y) (A := 100000000) (B := 100000000) (by omega) (by omega) (by decide)
  rw [h.1]; exact Int.mul_pos hx.1 hy.1
