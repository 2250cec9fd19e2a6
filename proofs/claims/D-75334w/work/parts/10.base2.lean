theorem B1_at {S : Type} {D : va_G} {A : Nat → Prop} {w1 : S → va_W} {X : S → Heap → Prop} {u : S} {t : State} {H : Heap} (ht : t.heap = H) (hP : va_P D vwCl (w1 u) H) (hD : va_D A (w1 u)) (hX : X u H) : B1 D A w1 X u t := ⟨by rw [ht]; exact hP, hD, by rw [ht]; exact hX⟩
theorem B1r_at {S : Type} {D : va_G} {A : Nat → Prop} {w1 : S → Nat → va_W} {X : S → Nat → Heap → Prop} {u : S} {a : Nat} {t : State} {H : Heap} (ht : t.heap = H) (hP : va_P D vwCl (w1 u a) H) (hD : va_D A (w1 u a)) (hX : X u a H) : B1r D A w1 X u a t := ⟨by rw [ht]; exact hP, hD, by rw [ht]; exact hX⟩
/-- the part of the model's world that most methods use -/
abbrev mC (dA : Nat → ClassId) (o : Nat → Nat) (th : Int32) (p q r : Nat) (mu : Int64) (zz : Nat → Int32) (fA fM : Nat → Int64) : va_W := [(o 0, .inr (2, mFs o th p q r mu zz)), (o 5, .inl (dA 1, 2640, .inr (.inl fA))), (o 6, .inl (dA 1, 32, .inr (.inl fM)))]
/-- how many of the first n places aren't 0 -/
def cntN (f : Nat → Int64) : Nat → Nat
  | 0 => 0
  | n + 1 => cntN f n + (if f n = 0 then 0 else 1)
theorem cntN_le (f : Nat → Int64) : ∀ n, cntN f n ≤ n
  | 0 => Nat.le_refl _
  | n + 1 => by
    have := cntN_le f n
    show cntN f n + (if f n = 0 then 0 else 1) ≤ n + 1
    split <;> omega
theorem cntN_congr {f g : Nat → Int64} : ∀ n, (∀ j, j < n → f j = g j) → cntN f n = cntN g n
  | 0, _ => rfl
  | n + 1, h => by
    show cntN f n + _ = cntN g n + _
    rw [cntN_congr n (fun j hj => h j (by omega)), h n (by omega)]
/-- how many vectors go past others, of two sets -/
def swp (a b : Nat) : Nat → Nat
  | 0 => 0
  | k + 1 => swp a b k + (if b / 2 ^ k &&& 1 = 1 then popc (a / 2 ^ (k + 1)) else 0)
theorem swp_le {a : Nat} (ha : a < 64) (b : Nat) : ∀ k, swp a b k ≤ 6 * k
  | 0 => Nat.le_refl _
  | k + 1 => by
    have h1 := swp_le ha b k
    have h2 := popc_le (a / 2 ^ (k + 1)) (Nat.lt_of_le_of_lt (Nat.div_le_self _ _) ha)
    show swp a b k + (if b / 2 ^ k &&& 1 = 1 then popc (a / 2 ^ (k + 1)) else 0) ≤ 6 * (k + 1)
    split <;> omega
def ordS (a b : Nat) : Int32 := if swp a b 5 % 2 = 0 then nI 1 else (-1)
/-- the square of the k-th vector -/
def sqV (p q k : Nat) : Int32 := if k < p then nI 1 else if k < p + q then (-1) else nI 0
def sgnM (p q a b : Nat) : Nat → Int32
  | 0 => ordS a b
  | k + 1 => if (a &&& b) / 2 ^ k &&& 1 = 1 then sgnM p q a b k * sqV p q k else sgnM p q a b k
/-- the sign of the product of two basis blades -/
def sgS (p q r a b : Nat) : Int32 := sgnM p q a b (p + q + r)
/-- whether a product takes what two blades give, by their sizes: 2 all, 3 outer, 4 left, 5 right, 6 scalar -/
def takG (kd i j k : Nat) : Bool := if kd = 2 then true else if kd = 3 then decide (k = i + j) else if kd = 4 then decide (k + i = j) else if kd = 5 then decide (k + j = i) else decide (k = 0)
def takB (kd a b : Nat) : Bool := takG kd (popc a) (popc b) (popc (a ^^^ b))
theorem xor32 {a b : Nat} (ha : a < 32) (hb : b < 32) : a ^^^ b < 32 := Nat.xor_lt_two_pow (n := 5) ha hb
theorem and32 {a : Nat} (b : Nat) (ha : a < 32) : a &&& b < 32 := Nat.lt_of_le_of_lt Nat.and_le_left ha
/-- a slot's numbers copied to another -/
def cpS (fA : Nat → Int64) (from_ to_ : Nat) : Nat → Int64 := wrS fA (33 * to_) 33 (fun i => fA (33 * from_ + i))
theorem cpS_hold {fA : Nat → Int64} {k t : Nat} {M : MV} (h : Hold fA k M) : Hold (cpS fA k t) t M := fun i hi => by
  unfold cpS; rw [wr_at hi]; exact h i hi
theorem cpS_same {fA : Nat → Int64} {k t : Nat} : Same fA (cpS fA k t) t := fun j hj => by
  unfold cpS; rw [wr_out (by omega)]
theorem Same.hold {fA fA' : Nat → Int64} {k j : Nat} {M : MV} (h : Same fA fA' k) (hj : j ≠ k) (hM : Hold fA j M) : Hold fA' j M := fun i hi => by
  rw [h _ (by omega)]; exact hM i hi
theorem Same.trans {f g h : Nat → Int64} {k : Nat} (h1 : Same f g k) (h2 : Same g h k) : Same f h k := fun j hj => (h2 j hj).trans (h1 j hj)
def trmS (M : MV) : Nat := cntN (fun j => M (j + 1)) 32
theorem trm_of {fA : Nat → Int64} {k : Nat} {M : MV} (h : Hold fA k M) : cntN (fun j => fA (33 * k + 1 + j)) 32 = trmS M := cntN_congr 32 (fun j hj => by
  show fA (33 * k + 1 + j) = M (j + 1)
  rw [← h (j + 1) (by omega)]; congr 1; omega)
