/-! what stands from the start on: statics, cells -/
theorem Gd.Z {l : Launch} {dC : Nat → ClassId} {dI : Nat → Nat → Nat} {dA : Nat → ClassId} {s0 U : State} {b0 : Addr} {A : Nat → Prop} {H : Heap} {C n d : String} {v : Value} (h : Gd s0 A U H) (_Z : Z0 l dC dI dA s0 b0) (z : va_Z C n d v (fun _ => False) s0 s0.heap) : va_Z C n d v A U H := by
  obtain ⟨cf, kf, fi, f, a, cell, h1, h2, h3, h4, h5, h6, h7, -⟩ := va_Z.moved h.1.alike z
  have ha : a < s0.heap.size := by
    rcases Nat.lt_or_ge a s0.heap.size with c | c
    · exact c
    · rw [Array.getElem?_eq_none c] at h5; cases h5
  have hq := h.2.2 a ha
  exact ⟨cf, kf, fi, f, a, cell, h1, h2, h3, h4, by rw [hq.1]; exact h5, h6, h7, hq.2⟩
/-- cells of the start, read alone -/
theorem Gd.RO {s0 U : State} {A : Nat → Prop} {D : va_G} {ws : va_W} (h : Gd s0 A U U.heap) (hP : va_P D vwCl ws s0.heap) : RO A D ws U.heap :=
  ⟨hP.kept (fun k q hk => (h.2.2 q.1 (hP k q hk).lt).1), fun k q hk => (h.2.2 q.1 (hP k q hk).lt).2⟩
/-- the grades of basis blades -/
def SG (D : va_G) (dA : Nat → ClassId) (gr : Nat) (s0 : State) : Prop := va_Z "BladeAlgebra" "GRADE" "[I" (.ref gr) (fun _ => False) s0 s0.heap ∧ va_P D vwCl [(gr, .inl (dA 0, 32, .inl (fun j => nI (popc j))))] s0.heap
/-- a multivector's two cells -/
abbrev MA (dA : Nat → ClassId) (m r : Nat) (M : MV) : va_W := [(m, .inr (0, [.ref r, .long (M 0)])), (r, .inl (dA 1, 32, .inr (.inl (fun j => M (j + 1)))))]
def inL (v lo hi : Int64) : Bool := decide (lo ≤ v) && decide (v ≤ hi)
theorem abs_if (x : Int64) : (if 0 < x then x else -x) = absL x := by
  unfold absL
  by_cases h : 0 < x
  · rw [if_pos h, if_neg (fun c => by have := Int64.lt_iff_toInt_lt.mp h; have := Int64.lt_iff_toInt_lt.mp c; omega)]
  · rw [if_neg h]
    by_cases c : x < 0
    · rw [if_pos c]
    · rw [if_neg c]
      have h0 : x = 0 := Int64.le_antisymm (Int64.not_lt.mp h) (Int64.not_lt.mp c)
      subst h0; rfl
