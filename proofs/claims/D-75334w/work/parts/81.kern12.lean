/-! objects as elements -/
def EO (C : String) (s0 : State) (H : Heap) (v : Nat) : Prop := ∃ cell : Cell, H[v]? = some cell ∧ cell.vm.isStatics = false ∧ s0.vm.findClass C = some cell.cls
def OBJ (s0 : State) (H : Heap) (v : Nat) : Prop := ∃ C : String, Cond.castable C "java/lang/Object" ∈ lw_tbl ∧ EO C s0 H v
theorem EO.lt {C : String} {s0 : State} {H : Heap} {v : Nat} (h : EO C s0 H v) : v < H.size := by
  obtain ⟨cell, h1, -⟩ := h
  exact (Array.getElem?_eq_some_iff.mp h1).1
theorem EO.to {C : String} {s0 : State} {H H1 : Heap} {v : Nat} (h : EO C s0 H v) (e : H1[v]? = H[v]?) : EO C s0 H1 v := by
  obtain ⟨cell, h1, h2⟩ := h
  exact ⟨cell, e.trans h1, h2⟩
theorem OBJ.to {s0 : State} {H H1 : Heap} {v : Nat} (h : OBJ s0 H v) (e : H1[v]? = H[v]?) : OBJ s0 H1 v := by
  obtain ⟨C, hc, h⟩ := h
  exact ⟨C, hc, h.to e⟩
theorem EO.of {D : va_G} {cl : List vw_C} {tys : List (ClassId × FieldType)} {s0 : State} {H : Heap} {a q0 ci : Nat} {fs : List Value} {r : vw_C} {ws : va_W} (hK : va_K D cl tys s0) (hP : va_P D cl ws H) (he : ws[q0]? = some (a, .inr (ci, fs))) (hc : cl[ci]? = some r) : EO r.1 s0 H a := by
  obtain ⟨cell, h1, h2, h3⟩ := va_recv hK hP hc he
  exact ⟨cell, h1, h2, h3⟩
/-- a constant of the start -/
theorem Gd.eo {s0 s : State} {A : Nat → Prop} {C : String} {a : Nat} {H : Heap} {locs : List Loc} (hG : Gd s0 A s s.heap) (h : va_O C a (fun _ => False) s0 s0.heap) (hS : va_S A s.heap H locs) : EO C s0 H a := by
  obtain ⟨cell, h1, h2, h3, -⟩ := h
  have ha : a < s0.heap.size := (Array.getElem?_eq_some_iff.mp h1).1
  have hq := hG.2.2 a ha
  refine ⟨cell, ?_, h2, h3⟩
  rw [hS.2.1 a (Nat.lt_of_lt_of_le ha hG.2.1) hq.2, hq.1]
  exact h1
theorem OBJ.any {l : Launch} {dC : Nat → ClassId} {dI : Nat → Nat → Nat} {dA : Nat → ClassId} {s0 s : State} {b0 : Addr} {A : Nat → Prop} {H H1 : Heap} {v : Nat} (Z : Z0 l dC dI dA s0 b0) (hG : Gd s0 A s H1) (h : OBJ s0 H v) : va_Any "java/lang/Object" s H v := by
  obtain ⟨C, hc, cell, h1, h2, h3⟩ := h
  obtain ⟨c0, t0, f1, f2, f3⟩ := Cond.castable_spec (castZ (args := #[]) Z hG hc)
  have h3' : s.vm.findClass C = some cell.cls := by rw [hG.1.alike.findClass]; exact h3
  cases h3'.symm.trans f1
  refine ⟨cell, h1, h2, Vm.classAt_of_findClass f1, fun comp hcomp => ?_⟩
  cases hcomp.symm.trans f2
  exact f3
/-- a list of c elements -/
def lsE (g : Nat → Nat) (c : Nat) : Nat → Option Nat := fun i => if i < c then some (g i) else none
theorem lsE_0 {g : Nat → Nat} : lsE g 0 = fun _ => none := by funext i; exact if_neg (Nat.not_lt_zero i)
theorem lsE_s {g : Nat → Nat} {c e : Nat} : va_up (lsE g c) c (some e) = lsE (updN g c e) (c + 1) := by
  funext i
  unfold va_up lsE updN
  by_cases h : i = c
  · rw [if_pos h, if_pos (by omega), if_pos h]
  · rw [if_neg h, if_neg h]
    by_cases h2 : i < c
    · rw [if_pos h2, if_pos (by omega)]
    · rw [if_neg h2, if_neg (by omega)]
theorem lsE_at {g : Nat → Nat} {c i : Nat} (h : i < c) : lsE g c i = some (g i) := if_pos h
/-- room of a list: c elements in n places, one more comes -/
def gcp (c n : Nat) : Nat := if c = n then n + n / 2 else n
theorem gcp_b {c n : Nat} (h : c ≤ n) (h2 : 2 ≤ n) : c + 1 ≤ gcp c n ∧ n ≤ gcp c n ∧ gcp c n ≤ n + n / 2 ∧ (gcp c n ≤ n ∨ gcp c n ≤ 2 * (c + 1)) := by
  unfold gcp
  split <;> omega
