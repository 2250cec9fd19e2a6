/-! an array that is read alone, cloned -/
section KR7
variable {p : Program} {l : Launch} {e : Env} {R : Room} {s : State} {m : MethodId} {args : Array Value} {below : List Frame} {meth : Method} {c : Code} {H : Heap} {locs : List Loc} {cells slots : Nat} {Q : State → Prop}
variable {cc : ByteArray} {pc : Nat} {ls : Array Slot} {rest : List Value} {D : va_G} {cl : List vw_C} {A : Nat → Prop} {a : Nat} {tys : List (ClassId × FieldType)} {ws ro : va_W} {H0 : Heap}
theorem a_clone (hexec : p.tables.exec = Jvm.exec) (hb : c.code = cc) (hml : c.maxLocals = ls.size) {own ad : String} {index : Nat} (hown : s.vm.findClass own = some m.cls) (hlink : (Cond.methodLink own index ⟨ad, "clone", "()Ljava/lang/Object;"⟩).before args s = true) (hsame : (Cond.sameMethod ad "java/lang/Object" "clone" "()Ljava/lang/Object;").before args s = true) (hnat : (Cond.native ⟨"java/lang/Object", "clone", "()Ljava/lang/Object;"⟩).before args s = true) (hinst : (Cond.instanceMethod ⟨"java/lang/Object", "clone", "()Ljava/lang/Object;"⟩).before args s = true) (hsel : (Cond.selects ad ⟨ad, "clone", "()Ljava/lang/Object;"⟩ ⟨"java/lang/Object", "clone", "()Ljava/lang/Object;"⟩).before args s = true) (hcl : va_Nw (.castable ad "java/lang/Cloneable") s) (hK : va_K D cl tys s) (hR : va_P D cl ro H) (hP : va_P D cl ws H) (hD : va_D A ws) (hS : va_S A H0 H locs) (hA : ∀ q, H0.size ≤ q → A q) (q0 t0 : Nat) {cA : ClassId} {x : vp_A} {ty : FieldType} (ha : ro[q0]? = some (a, .inl (cA, x))) (hna : ¬ A a) (ht : tys[t0]? = some (cA, ty)) (hnm : s.vm.findClass ad = some cA) (hfit : ∀ (i : Nat) (v : Value), (vp_cell cA x).slots[i]? = some v → fits ty v = true) (hframes : 1 ≤ R.frames) (hlocals : (rest.map fun v => v.category).sum + 14 ≤ R.locals) (hcells : cells + 1 ≤ R.cells) (hslots : slots + x.1 ≤ R.slots) (hdg : decode cc pc = .ok (.invokevirtual index, 3)) (kk : ∀ (q : Nat) (H1 : Heap), va_P D cl (ws ++ [(q, .inl (cA, x))]) H1 → va_D A (ws ++ [(q, .inl (cA, x))]) → va_S A H0 H1 locs → W p l e R s m args below meth c H1 locs (cells + 1) (slots + x.1) Q (F0 m (pc + 3) ls (.ref q :: rest))) : W p l e R s m args below meth c H locs cells slots Q (F0 m pc ls (.ref a :: rest)) := by
  have hcell := hR q0 _ ha
  have hP2 : va_P D cl ((a, .inl (cA, x)) :: ws) H := by
    intro k q hk
    cases k with
    | zero => cases hk; exact hcell
    | succ k => exact hP k q hk
  have hD2 : va_D (fun q => A q ∨ q = a) ((a, .inl (cA, x)) :: ws) := by
    refine ⟨fun i j p q hi hj e => ?_, fun k q hk => ?_⟩
    · cases i with
      | zero =>
        cases j with
        | zero => rfl
        | succ j =>
          cases hi
          exact absurd ((show q.1 = a from e.symm) ▸ hD.2 j q hj : A a) hna
      | succ i =>
        cases j with
        | zero =>
          cases hj
          exact absurd ((show p.1 = a from e) ▸ hD.2 i p hi : A a) hna
        | succ j => exact congrArg Nat.succ (hD.1 i j p q hi hj e)
    · cases k with
      | zero => cases hk; exact Or.inr rfl
      | succ k => exact Or.inl (hD.2 k q hk)
  have hS2 : va_S (fun q => A q ∨ q = a) H0 H locs := ⟨hS.1, fun q h n => hS.2.1 q h (fun c => n (Or.inl c)), fun l hl => Or.inl (hS.2.2 l hl)⟩
  refine va_clone hexec hb hml hown hlink hsame hnat hinst hsel hcl hK hP2 hD2 hS2 (fun q h => Or.inl (hA q h)) 0 t0 rfl ht hnm hfit hframes hlocals hcells hslots hdg (fun q H1 _ hP3 hD3 hS3 => ?_)
  have hne : q ≠ a := by
    intro e
    have h1 : ((a, Sum.inl (cA, x)) :: ws ++ [(q, Sum.inl (cA, x))])[ws.length + 1]? = some (q, Sum.inl (cA, x)) := by simp
    have := hD3.1 0 (ws.length + 1) _ _ rfl h1 e.symm
    omega
  refine kk q H1 (fun k z hk => hP3 (k + 1) z hk) ⟨fun i j p z hi hj e => Nat.succ.inj (hD3.1 (i + 1) (j + 1) p z hi hj e), fun k z hk => ?_⟩ ⟨hS3.1, fun z hz nz => ?_, hS.2.2⟩
  · rcases hD3.2 (k + 1) z hk with h | h
    · exact h
    · exact absurd (hD3.1 0 (k + 1) _ z rfl hk h.symm) (by omega)
  · by_cases e : z = a
    · subst e
      have h1 := hP3 0 _ rfl
      rw [← hS.2.1 z hz nz]
      exact (show H1[z]? = some (vp_cell cA x) from h1).trans (show H[z]? = some (vp_cell cA x) from hcell).symm
    · exact hS3.2.1 z hz (fun c => c.elim nz e)
end KR7
theorem fit_long {cA : ClassId} {n : Nat} {f : Nat → Int64} : ∀ (i : Nat) (v : Value), (vp_cell cA (n, .inr (.inl f))).slots[i]? = some v → fits .long v = true := by
  intro i v h
  have h2 : (arrV cA n (fun j => .long (f j))).slots[i]? = some v := h
  unfold arrV at h2
  rw [Array.getElem?_eq_some_iff] at h2
  obtain ⟨hi, rfl⟩ := h2
  simp
  rfl
theorem nm_p {v : Int64} (h : 0 < v.toInt) : v ≠ Int64.minValue := by
  intro c; rw [c] at h; exact absurd h (by decide)
