/-! what a node of the tree stands for -/
def dOp (o p q r k : Nat) : Dn → Dn → Dn
  | Sum.inl x, _ => Sum.inl x
  | Sum.inr _, Sum.inl x => Sum.inl x
  | Sum.inr M, Sum.inr N => match cmbS o p q r M N with
    | some P => Sum.inr P
    | none => Sum.inl k
theorem dBin_op {p q r a k : Nat} {d d2 : Dn} : dBin p q r a k d d2 = dOp (opnS a) p q r k d d2 := by
  cases d with
  | inl x => rfl
  | inr M => cases d2 <;> rfl
def fB (p q r : Nat) (oo pl : Nat → Nat) (dd : Nat → Dn) (d0 : Dn) : Nat → Dn
  | 0 => d0
  | i + 1 => dOp (oo i) p q r (pl i) (fB p q r oo pl dd d0 i) (dd i)
def fU (p q r : Nat) (oo : Nat → Nat) (d0 : Dn) : Nat → Dn
  | 0 => d0
  | i + 1 => dMap (trnS (oo i) p q r) (fU p q r oo d0 i)
def MIn (dA : Nat → ClassId) (rm rr : Nat → Nat) (Ms : Nat → MV) (im : va_W) (mo mr : Nat) (M : MV) : Prop := (∃ k, k < 8 ∧ mo = rm k ∧ mr = rr k ∧ M = Ms k) ∨ ∀ q ∈ MA dA mo mr M, q ∈ im
def PIn (σ : Nat → Nat) (im : va_W) (po k : Nat) : Prop := (k < 128 ∧ po = σ (1128 + k)) ∨ (po, .inr (16, [.int (nI k)])) ∈ im
def u3 (o : Nat) : Prop := o = 0 ∨ o = 3 ∨ o = 8
def NV (dA : Nat → ClassId) (σ rm rr : Nat → Nat) (Ms : Nat → MV) (p q r : Nat) : Nat → va_W → Nat → Dn → Prop
  | 0, _, _, _ => False
  | k + 1, im, nd, d => (∃ (mo mr : Nat) (M : MV), d = Sum.inr M ∧ MSm M ∧ MSp (2 ^ (p + q + r)) M ∧ MIn dA rm rr Ms im mo mr M ∧ (nd, .inr (11, [.ref mo])) ∈ im) ∨
    (∃ (of al ed bm cn : Nat) (md : Int32) (oo : Nat → Nat) (gO : Nat → Nat) (d0 : Dn), NV dA σ rm rr Ms p q r k im of d0 ∧ cn ≤ bm ∧ bm ≤ 3000 ∧ (∀ q ∈ ([(nd, .inr (12, [.ref of, .ref al])), (al, .inr (13, [.int md, .ref ed, .int (nI cn)])), (ed, .inl (dA 8, bm, .inr (.inr (.inr (.inr (lsE gO cn))))))] : va_W), q ∈ im) ∧ (∀ i, i < cn → u3 (oo i) ∧ gO i = σ (30 + oo i)) ∧ d = fU p q r oo d0 cn) ∨
    (∃ (fi : Nat) (u : Nat → Nat) (bm cn : Nat) (md : Int32) (oo pl : Nat → Nat) (gO gN gP : Nat → Nat) (dd : Nat → Dn) (d0 : Dn), NV dA σ rm rr Ms p q r k im fi d0 ∧ (∀ i, i < cn → NV dA σ rm rr Ms p q r k im (gN i) (dd i)) ∧ cn ≤ bm ∧ bm ≤ 3000 ∧ (∀ q ∈ ([(nd, .inr (10, [.ref fi, .ref (u 0), .ref (u 2), .ref (u 4)])), (u 0, .inr (13, [.int md, .ref (u 1), .int (nI cn)])), (u 1, .inl (dA 8, bm, .inr (.inr (.inr (.inr (lsE gO cn)))))), (u 2, .inr (13, [.int md, .ref (u 3), .int (nI cn)])), (u 3, .inl (dA 8, bm, .inr (.inr (.inr (.inr (lsE gN cn)))))), (u 4, .inr (13, [.int md, .ref (u 5), .int (nI cn)])), (u 5, .inl (dA 8, bm, .inr (.inr (.inr (.inr (lsE gP cn))))))] : va_W), q ∈ im) ∧ (∀ i, i < cn → oo i < 9 ∧ gO i = σ (20 + oo i)) ∧ (∀ i, i < cn → pl i < 1000 ∧ PIn σ im (gP i) (pl i)) ∧ d = fB p q r oo pl dd d0 cn)
theorem MIn.mono {dA : Nat → ClassId} {rm rr : Nat → Nat} {Ms : Nat → MV} {im im' : va_W} {mo mr : Nat} {M : MV} (h : MIn dA rm rr Ms im mo mr M) (hi : ∀ q ∈ im, q ∈ im') : MIn dA rm rr Ms im' mo mr M := h.imp id (fun h q hq => hi q (h q hq))
theorem PIn.mono {σ : Nat → Nat} {im im' : va_W} {po k : Nat} (h : PIn σ im po k) (hi : ∀ q ∈ im, q ∈ im') : PIn σ im' po k := h.imp id (fun h => hi _ h)
theorem NV.mono {dA : Nat → ClassId} {σ rm rr : Nat → Nat} {Ms : Nat → MV} {p q r : Nat} {im im' : va_W} (hi : ∀ q ∈ im, q ∈ im') : ∀ {k k' nd : Nat} {d : Dn}, NV dA σ rm rr Ms p q r k im nd d → k ≤ k' → NV dA σ rm rr Ms p q r k' im' nd d := by
  intro k
  induction k with
  | zero => intro k' nd d h; exact h.elim
  | succ k ih =>
    intro k' nd d h hk
    obtain ⟨j, rfl⟩ : ∃ j, k' = j + 1 := ⟨k' - 1, by omega⟩
    rcases h with ⟨mo, mr, M, h1, h2, h3, h4, h5⟩ | ⟨of, al, ed, bm, cn, md, oo, gO, d0, h1, h2, h3, h4, h5, h6⟩ | ⟨fi, u, bm, cn, md, oo, pl, gO, gN, gP, dd, d0, h1, h2, h3, h4, h5, h6, h7, h8⟩
    · exact Or.inl ⟨mo, mr, M, h1, h2, h3, h4.mono hi, hi _ h5⟩
    · exact Or.inr (Or.inl ⟨of, al, ed, bm, cn, md, oo, gO, d0, ih h1 (by omega), h2, h3, fun q hq => hi q (h4 q hq), h5, h6⟩)
    · exact Or.inr (Or.inr ⟨fi, u, bm, cn, md, oo, pl, gO, gN, gP, dd, d0, ih h1 (by omega), fun i hc => ih (h2 i hc) (by omega), h3, h4, fun q hq => hi q (h5 q hq), h6, fun i hc => ⟨(h7 i hc).1, (h7 i hc).2.mono hi⟩, h8⟩)
theorem EO.im {l : Launch} {dC : Nat → ClassId} {dI : Nat → Nat → Nat} {dA : Nat → ClassId} {s0 : State} {b0 : Addr} (Z : Z0 l dC dI dA s0 b0) {im : va_W} {H : Heap} (hP : va_P (dC, dI) vwCl im H) {a ci : Nat} {fs : List Value} {r : vw_C} (hq : (a, .inr (ci, fs)) ∈ im) (hc : vwCl[ci]? = some r) : EO r.1 s0 H a :=
  EO.of Z.1 (imAt hP hq) (q0 := 0) rfl hc
theorem NV.obj {l : Launch} {dC : Nat → ClassId} {dI : Nat → Nat → Nat} {dA : Nat → ClassId} {s0 : State} {b0 : Addr} (Z : Z0 l dC dI dA s0 b0) {σ rm rr : Nat → Nat} {Ms : Nat → MV} {p q r : Nat} {im : va_W} {H : Heap} (hP : va_P (dC, dI) vwCl im H) {k nd : Nat} {d : Dn} (h : NV dA σ rm rr Ms p q r k im nd d) : OBJ s0 H nd ∧ ∃ e, (nd, e) ∈ im := by
  cases k with
  | zero => exact h.elim
  | succ k =>
    rcases h with ⟨mo, mr, M, h1, h2, h3, h4, h5⟩ | ⟨of, al, ed, bm, cn, md, oo, gO, d0, h1, h2, h3, h4, h5, h6⟩ | ⟨fi, u, bm, cn, md, oo, pl, gO, gN, gP, dd, d0, h1, h2, h3, h4, h5, h6, h7, h8⟩
    · exact ⟨⟨_, q2616, EO.im Z hP h5 rfl⟩, _, h5⟩
    · exact ⟨⟨_, q2617, EO.im Z hP (h4 _ List.mem_cons_self) rfl⟩, _, h4 _ List.mem_cons_self⟩
    · exact ⟨⟨_, q2614, EO.im Z hP (h5 _ List.mem_cons_self) rfl⟩, _, h5 _ List.mem_cons_self⟩
/-- a cell of the list behind isn't written by a call -/
theorem im_na {A : Nat → Prop} {D : va_G} {a im wc : va_W} {H : Heap} (hP : va_P D vwCl (a ++ im) H) (hD : va_D A (a ++ im)) {isC : List Nat} (hC : isC.map (fun i => a[i]?) = wc.map some) {nd : Nat} {e : va_E} (h : (nd, e) ∈ im) : ¬ va_A wc H.size nd := by
  obtain ⟨k, hk⟩ := List.getElem?_of_mem h
  exact (RO.im hP hD hC).2 k _ hk
