/-! what the operations on registers answer -/
abbrev outH (k : Nat) : Prop := k < 24 ∨ 32 ≤ k
def Kp (fA fA' : Nat → Int64) (C : Nat → Prop) : Prop := ∀ k, C k → ∀ i, i < 33 → fA' (33 * k + i) = fA (33 * k + i)
theorem Kp.hold {fA fA' : Nat → Int64} {C : Nat → Prop} {k : Nat} {M : MV} (h : Kp fA fA' C) (hk : C k) (hM : Hold fA k M) : Hold fA' k M := fun i hi => by rw [h k hk i hi]; exact hM i hi
theorem PutPost.cases {fA : Nat → Int64} {k : Nat} {res : Option MV} {r : Int32} {fA' : Nat → Int64} (h : PutPost fA k res r fA') : (∃ P, res = some P ∧ r = nI 1 ∧ Hold fA' k P ∧ Same fA fA' k) ∨ (res = none ∧ r = nI 0 ∧ fA' = fA) := by
  cases res with
  | none => exact Or.inr ⟨rfl, h⟩
  | some P => exact Or.inl ⟨P, rfl, h⟩
/-- an operation that uses the help slots: its value in the slot t, all else but help kept -/
def OpPost (fA : Nat → Int64) (t : Nat) (res : Option MV) (r : Int32) (fA' : Nat → Int64) : Prop := (∃ P, res = some P ∧ r = nI 1 ∧ Hold fA' t P ∧ Kp fA fA' (fun k => outH k ∧ k ≠ t)) ∨ (res = none ∧ r = nI 0 ∧ Kp fA fA' outH)
theorem OpPost.mk1 {fA fA' : Nat → Int64} {t : Nat} {res : Option MV} {P : MV} (e : res = some P) (h : Hold fA' t P) (k : Kp fA fA' (fun k => outH k ∧ k ≠ t)) : OpPost fA t res (nI 1) fA' := Or.inl ⟨P, e, rfl, h, k⟩
theorem OpPost.mk0 {fA fA' : Nat → Int64} {t : Nat} {res : Option MV} (e : res = none) (k : Kp fA fA' outH) : OpPost fA t res (nI 0) fA' := Or.inr ⟨e, rfl, k⟩
theorem OpPost.z {fA : Nat → Int64} {k : Nat} {res : Option MV} {r : Int32} {fA' : Nat → Int64} (h : OpPost fA k res r fA') : narrow .boolean (.int r) = .int r := by
  rcases h with ⟨P, -, rfl, -⟩ | ⟨-, rfl, -⟩ <;> rfl
theorem PutPost.op {fA : Nat → Int64} {t : Nat} {res : Option MV} {r : Int32} {fA' : Nat → Int64} (h : PutPost fA t res r fA') : OpPost fA t res r fA' := by
  rcases h.cases with ⟨P, e, hr, hH, hS⟩ | ⟨e, hr, hE⟩
  · exact Or.inl ⟨P, e, hr, hH, fun k hk i hi => hS _ (by have := hk.2; omega)⟩
  · exact Or.inr ⟨e, hr, fun k _ i _ => by rw [hE]⟩
theorem MSm.u {M : MV} (h : MSm M) : sm8 (M 0) := ⟨by have := h.1; omega, h.2.1⟩
theorem MSm.c {M : MV} (h : MSm M) {j : Nat} (hj : j < 32) : sm8 (M (j + 1)) := h.2.2 j hj
theorem mulS_sm {kd p q r : Nat} {M N P : MV} (hM : MSm M) (hN : MSm N) (e : mulS kd p q r M N = some P) : MSm P := fitS_sm (und_bd hM hN).1 e
theorem addS_sm {s : Int32} {M N P : MV} (hM : MSm M) (hN : MSm N) (e : addS s M N = some P) : MSm P := fitS_sm (und_bd hM hN).1 e
theorem scaS_sm {top bot : Int64} {M P : MV} (hb : sm8 bot) (h0 : bot ≠ 0) (hM : MSm M) (e : scaS top bot M = some P) : MSm P := fitS_sm (scaU_bd hb h0 hM).1 e
theorem trnS_sm {op p q r : Nat} (hn : p + q + r ≤ 5) {M : MV} (hM : MSm M) : MSm (trnS op p q r M) := red_small hM.1 (fit_small hM.1 hM.2.1 (fun j _ => trnR_bd hn hM j))
def revS (p q r : Nat) (M : MV) : MV := trnS 0 p q r M
def sqS (p q r : Nat) (M : MV) : Option MV := mulS 2 p q r M (revS p q r M)
def meetS (p q r : Nat) (M N : MV) : Option MV := match mulS 3 p q r (trnS 3 p q r M) (trnS 3 p q r N) with
  | none => none
  | some P => some (trnS 4 p q r P)
def comS (p q r : Nat) (M N : MV) : Option MV := match mulS 2 p q r M N with
  | none => none
  | some P => match mulS 2 p q r N M with
    | none => none
    | some T => match addS (-1) P T with
      | none => none
      | some S => scaS 1 2 S
def cmbS (op p q r : Nat) (M N : MV) : Option MV := if op = 0 then addS (nI 1) M N else if op = 1 then addS (-1) M N else if op = 7 then meetS p q r M N else if op = 8 then comS p q r M N else mulS op p q r M N
theorem comS_sm {p q r : Nat} {M N P : MV} (hM : MSm M) (hN : MSm N) (e : comS p q r M N = some P) : MSm P := by
  unfold comS at e
  split at e
  · cases e
  · rename_i A eA
    split at e
    · cases e
    · rename_i B eB
      split at e
      · cases e
      · rename_i C eC
        exact scaS_sm (by unfold sm8; decide) (by decide) (addS_sm (mulS_sm hM hN eA) (mulS_sm hN hM eB) eC) e
theorem meetS_sm {p q r : Nat} (hn : p + q + r ≤ 5) {M N P : MV} (hM : MSm M) (hN : MSm N) (e : meetS p q r M N = some P) : MSm P := by
  unfold meetS at e
  split at e
  · cases e
  · rename_i A eA
    cases e
    exact trnS_sm hn (mulS_sm (trnS_sm hn hM) (trnS_sm hn hN) eA)
theorem cmbS_sm {op p q r : Nat} (hn : p + q + r ≤ 5) {M N P : MV} (hM : MSm M) (hN : MSm N) (e : cmbS op p q r M N = some P) : MSm P := by
  unfold cmbS at e
  split at e
  · exact addS_sm hM hN e
  · split at e
    · exact addS_sm hM hN e
    · split at e
      · exact meetS_sm hn hM hN e
      · split at e
        · exact comS_sm hM hN e
        · exact mulS_sm hM hN e
/-- the answer of an operation that lays a value into a register: a code (0: done), and the value -/
abbrev CO : Type := Int32 × Option MV
def ModPost (fA : Nat → Int64) (t : Nat) (x : CO) (th r : Int32) (fA' : Nat → Int64) : Prop := th = x.1 ∧ ((∃ P, x.2 = some P ∧ r = nI (trmS P) ∧ Hold fA' t P ∧ Kp fA fA' (fun k => outH k ∧ k ≠ t)) ∨ (x.2 = none ∧ r = nI 0 ∧ Kp fA fA' outH))
theorem ModPost.mk1 {fA fA' : Nat → Int64} {t : Nat} {x : CO} {P : MV} (e : x = (nI 0, some P)) (h : Hold fA' t P) (k : Kp fA fA' (fun k => outH k ∧ k ≠ t)) : ModPost fA t x (nI 0) (nI (cntN (fun j => fA' (33 * t + 1 + j)) 32)) fA' := ⟨by rw [e], Or.inl ⟨P, by rw [e], by rw [trm_of h], h, k⟩⟩
theorem ModPost.mk0 {fA fA' : Nat → Int64} {t : Nat} {x : CO} {c : Int32} (e : x = (c, none)) (k : Kp fA fA' outH) : ModPost fA t x c (nI 0) fA' := ⟨by rw [e], Or.inr ⟨by rw [e], rfl, k⟩⟩
theorem inB_nat {v : Int32} {m : Nat} (hm : m < 2 ^ 31) (h : inB v (nI 0) (nI m) = true) : ∃ j, j ≤ m ∧ v = nI j := by
  unfold inB at h
  rw [Bool.and_eq_true, decide_eq_true_iff, decide_eq_true_iff] at h
  exact nI_of2 (nI_toInt hm) (Int32.not_lt.mpr h.1) h.2
theorem inB_r {j m : Nat} (hm : m < 2 ^ 31) (h : j ≤ m) : inB (nI j) (nI 0) (nI m) = true := by
  unfold inB
  rw [decide_eq_true (nI_le (Nat.zero_le _) (by omega)), decide_eq_true (nI_le h hm)]; rfl
def rg (v : Int32) : Nat := v.toNatClampNeg
theorem rg_n {j : Nat} (h : j < 8) : rg (nI j) = j := nI_clamp (by omega)
def rgB (v : Int32) : Bool := inB v (nI 0) (nI 7)
def optC (c : Int32) (x : Option MV) : CO := match x with
  | none => (c, none)
  | some P => (nI 0, some P)
def cmbX (p q r : Nat) (Ms : Nat → MV) (op t a b : Int32) : CO := if inB op (nI 0) (nI 8) = false then (nI 1, none) else if (rgB t && rgB a && rgB b) = false then (nI 2, none) else optC (nI 3) (cmbS op.toNatClampNeg p q r (Ms (rg a)) (Ms (rg b)))
def invS (p q r : Nat) (M : MV) : CO := match sqS p q r M with
  | none => (nI 3, none)
  | some S => if isNumB S 32 = false then (nI 4, none) else optC (nI 3) (scaS (S 0) (S 1) (revS p q r M))
def chgX (p q r : Nat) (Ms : Nat → MV) (op t a : Int32) : CO := if inB op (nI 0) (nI 9) = false then (nI 1, none) else if (rgB t && rgB a) = false then (nI 2, none) else if op.toNatClampNeg = 9 then invS p q r (Ms (rg a)) else if op.toNatClampNeg = 5 ∧ 0 < r then (nI 4, none) else (nI 0, some (trnS op.toNatClampNeg p q r (Ms (rg a))))
def grdR (W g : Nat) (M : MV) : Nat → Int64 := fun j => if j < W ∧ popc j = g then M (j + 1) else 0
def grdX (p q r : Nat) (Ms : Nat → MV) (t a g : Int32) : CO := if (rgB t && rgB a) = false then (nI 1, none) else if inB g (nI 0) (nI (p + q + r)) = false then (nI 2, none) else (nI 0, some (redS (Ms (rg a) 0) (grdR (2 ^ (p + q + r)) g.toNatClampNeg (Ms (rg a)))))
def sclX (Ms : Nat → MV) (t a x y : Int32) : CO := if (rgB t && rgB a) = false then (nI 1, none) else if (inB x (-10000) (nI 10000) && inB y (nI 1) (nI 10000)) = false then (nI 2, none) else optC (nI 3) (scaS x.toInt64 y.toInt64 (Ms (rg a)))
theorem isNumB_1 {M : MV} (h : isNumB M 32 = true) : M 1 ≠ 0 := by
  rcases e : isNumB M 0 with _ | _
  · rw [isNumB_mono e (by omega)] at h; cases h
  · exact of_decide_eq_true e
theorem grdR_bd {W g : Nat} {M : MV} (hM : MSm M) {j : Nat} (hj : j < 32) : sm8 (grdR W g M j) := by
  unfold grdR; split
  · exact hM.2.2 j hj
  · unfold sm8; decide
/-- the grades of a value, as a set of bits -/
def grN (M : MV) : Nat → Nat
  | 0 => 0
  | k + 1 => grN M k ||| (if M (k + 1) = 0 then 0 else 2 ^ popc k)
theorem grN_lt (M : MV) : ∀ k, k ≤ 32 → grN M k < 64
  | 0, _ => by show 0 < 64; decide
  | k + 1, h => by
    have h1 := grN_lt M k (by omega)
    have h2 := popc_le5 k (by omega)
    show grN M k ||| (if M (k + 1) = 0 then 0 else 2 ^ popc k) < 2 ^ 6
    refine Nat.or_lt_two_pow h1 ?_
    split
    · decide
    · exact Nat.pow_lt_pow_right (by decide) (by omega)
def grS (M : MV) : Nat := grN M 32
def mixB (M : MV) : Bool := decide (grS M &&& 21 ≠ 0) && decide (grS M &&& 42 ≠ 0)
/-- a versor times a value or its involution, times the versor's reverse -/
def sndS (p q r : Nat) (V M : MV) : Option MV := match mulS 2 p q r V (if grS V &&& 42 = 0 then M else trnS 1 p q r M) with
  | none => none
  | some P => mulS 2 p q r P (revS p q r V)
def vecB (M : MV) : Bool := decide (grS M &&& 61 = 0)
def likeB (M N : MV) : Nat → Bool
  | 0 => true
  | k + 1 => likeB M N k && decide (M k = N k)
def appX (p q r : Nat) (Ms : Nat → MV) (t v a : Int32) : CO := if (rgB t && rgB v && rgB a) = false then (nI 1, none) else if mixB (Ms (rg v)) = true then (nI 2, none) else match sqS p q r (Ms (rg v)) with
  | none => (nI 3, none)
  | some S => if isNumB S 32 = false then (nI 4, none) else match sndS p q r (Ms (rg v)) (Ms (rg a)) with
    | none => (nI 3, none)
    | some T => optC (nI 3) (scaS (S 0) (S 1) T)
def rotX (p q r : Nat) (Ms : Nat → MV) (t a b : Int32) : CO := if (rgB t && rgB a && rgB b) = false then (nI 1, none) else if (vecB (Ms (rg a)) && vecB (Ms (rg b))) = false then (nI 2, none) else match mulS 2 p q r (Ms (rg a)) (Ms (rg a)) with
  | none => (nI 3, none)
  | some A => match mulS 2 p q r (Ms (rg b)) (Ms (rg b)) with
    | none => (nI 3, none)
    | some B => if trmS A = 0 ∨ likeB A B 33 = false then (nI 4, none) else match mulS 2 p q r (Ms (rg b)) (Ms (rg a)) with
      | none => (nI 3, none)
      | some C => match addS (nI 1) A C with
        | none => (nI 3, none)
        | some D => match sqS p q r D with
          | none => (nI 3, none)
          | some E => if trmS E = 0 then (nI 4, none) else (nI 0, some D)
/-- a number as a value -/
def numM (v : Int64) : MV := fun i => if i = 0 then 1 else if i = 1 then v else 0
def powS (p q r : Nat) (M : MV) : Nat → Option MV
  | 0 => some (numM 1)
  | k + 1 => match powS p q r M k with
    | none => none
    | some P => mulS 2 p q r P M
def powX (p q r : Nat) (Ms : Nat → MV) (t a x : Int32) : CO := if (rgB t && rgB a) = false then (nI 1, none) else if inB x (nI 0) (nI 20) = false then (nI 2, none) else optC (nI 3) (powS p q r (Ms (rg a)) x.toNatClampNeg)
def prjX (p q r : Nat) (Ms : Nat → MV) (t a b : Int32) : CO := if (rgB t && rgB a && rgB b) = false then (nI 1, none) else match sqS p q r (Ms (rg b)) with
  | none => (nI 2, none)
  | some S => if isNumB S 32 = false then (nI 3, none) else match scaS (S 0) (S 1) (revS p q r (Ms (rg b))) with
    | none => (nI 2, none)
    | some I => match mulS 4 p q r (Ms (rg a)) (Ms (rg b)) with
      | none => (nI 2, none)
      | some L => optC (nI 2) (mulS 2 p q r L I)
