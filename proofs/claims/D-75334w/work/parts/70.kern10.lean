/-! arrays of references made; a table of rows made at once -/
theorem aoZ {l : Launch} {dC : Nat → ClassId} {dI : Nat → Nat → Nat} {dA : Nat → ClassId} {s0 s : State} {b0 : Addr} {A : Nat → Prop} {H : Heap} {args : Array Value} (Z : Z0 l dC dI dA s0 b0) (hG : Gd s0 A s H) {ty : FieldType} (h : Cond.arrayOver ty ∈ lw_tbl) : (Cond.arrayOver ty).before args s = true := by
  have h1 : (Cond.arrayOver ty).before #[] (s0.setVm s.vm) = true := by
    rw [Cond.arrayOver_setVmC hG.1.alike]
    exact Z.2.1 _ h
  exact h1
theorem oC_plain (c : ClassId) (N h0 : Nat) : ∀ i, (Jvm.Free.Multi.outerC c N h0 i).monitor = {} ∧ (Jvm.Free.Multi.outerC c N h0 i).hash = none
  | 0 => ⟨rfl, rfl⟩
  | i + 1 => by
    obtain ⟨a, b⟩ := oC_plain c N h0 i
    exact ⟨a, b⟩
theorem ra_obj {C : String} {s : State} {a b : ClassId} (h1 : va_RA s a (.object C)) (h2 : va_RA s b (.object C)) : a = b := by
  obtain ⟨_, _, _, _, _, h1⟩ := h1
  obtain ⟨_, _, _, _, _, h2⟩ := h2
  exact Option.some.inj (h1.symm.trans h2)
section KRA
variable {p : Program} {l : Launch} {e : Env} {R : Room} {s : State} {m : MethodId} {args : Array Value} {below : List Frame} {meth : Method} {c : Code} {H : Heap} {locs : List Loc} {cells slots : Nat} {Q : State → Prop}
variable {cc : ByteArray} {pc : Nat} {ls : Array Slot} {rest : List Value} {D : va_G} {cl : List vw_C} {A : Nat → Prop} {tys : List (ClassId × FieldType)} {ws : va_W} {H0 : Heap}
theorem a_newq (hexec : p.tables.exec = Jvm.exec) (hb : c.code = cc) {own C : String} {index : Nat} (hown : s.vm.findClass own = some m.cls) (hclink : (Cond.classLink own index C).before args s = true) (hover : va_AO C s) (hK : va_K D cl tys s) (hP : va_P D cl ws H) (hD : va_D A ws) (hS : va_S A H0 H locs) (hA : ∀ q, H0.size ≤ q → A q) (t0 : Nat) {cA0 : ClassId} (ht : tys[t0]? = some (cA0, .object C)) {n : Int32} {N' : Nat} (hn : ¬ n < 0) (hN : n.toNatClampNeg = N') (hbytes : N' * 4 ≤ 536870912) (hcells : cells + 1 ≤ R.cells) (hslots : slots + N' ≤ R.slots) (hdg : decode cc pc = .ok (.anewarray index, 3))
    (kk : ∀ (q : Nat) (H1 : Heap) (locs1 : List Loc), va_P D cl (ws ++ [(q, .inl (cA0, N', .inr (.inr (.inr (.inr (fun _ => none))))))]) H1 → va_D A (ws ++ [(q, .inl (cA0, N', .inr (.inr (.inr (.inr (fun _ => none))))))]) → va_S A H0 H1 locs1 → W p l e R s m args below meth c H1 locs1 (cells + 1) (slots + N') Q (F0 m (pc + 3) ls (.ref q :: rest))) : W p l e R s m args below meth c H locs cells slots Q (F0 m pc ls (.int n :: rest)) :=
  va_newq hexec hb hown hclink hover hK hP hD hS hA hn hN hbytes hcells hslots hdg (fun q cA H1 hK1 hP1 hD1 hS1 => by
    have h1 := (hK1.2 tys.length (cA, .object C) (by rw [List.getElem?_append_right (Nat.le_refl _), Nat.sub_self]; rfl)).2
    have h2 := (hK.2 t0 _ ht).2
    have := ra_obj h1 h2
    subst this
    exact kk q H1 locs hP1 hD1 hS1)
/-- rows made one behind the other, behind q -/
def rwL (cI : ClassId) (K q : Nat) (f : Nat → Nat → Int32) (N : Nat) : va_W := (List.range N).map (fun i => (q + 1 + i, .inl (cI, K, .inl (f i))))
def updR (f : Nat → Nat → Int32) (i : Nat) (g : Nat → Int32) : Nat → Nat → Int32 := fun k => if k = i then g else f k
theorem rwL_at {cI : ClassId} {K q : Nat} {f : Nat → Nat → Int32} {N i : Nat} (h : i < N) : (rwL cI K q f N)[i]? = some (q + 1 + i, .inl (cI, K, .inl (f i))) := by
  unfold rwL
  rw [List.getElem?_map, List.getElem?_range h]
  rfl
theorem rwL_mem {cI : ClassId} {K q : Nat} {f : Nat → Nat → Int32} {N k : Nat} {x : Nat × va_E} (h : (rwL cI K q f N)[k]? = some x) : k < N ∧ x = (q + 1 + k, .inl (cI, K, .inl (f k))) := by
  have hk : k < N := by
    have := (List.getElem?_eq_some_iff.mp h).1
    unfold rwL at this
    rw [List.length_map, List.length_range] at this
    exact this
  rw [rwL_at hk] at h
  exact ⟨hk, (Option.some.inj h).symm⟩
theorem rwL_set {cI : ClassId} {K q : Nat} {f : Nat → Nat → Int32} {N i : Nat} {g : Nat → Int32} (h : i < N) : (rwL cI K q f N).set i (q + 1 + i, .inl (cI, K, .inl g)) = rwL cI K q (updR f i g) N := by
  apply List.ext_getElem?
  intro k
  rw [List.getElem?_set]
  by_cases e : i = k
  · subst e
    rw [if_pos rfl, rwL_at h]
    have : i < (rwL cI K q f N).length := (List.getElem?_eq_some_iff.mp (rwL_at (cI := cI) (K := K) (q := q) (f := f) h)).1
    rw [if_pos this]
    unfold updR
    rw [if_pos rfl]
  · rw [if_neg e]
    by_cases hk : k < N
    · rw [rwL_at hk, rwL_at hk]
      unfold updR
      rw [if_neg (fun z => e z.symm)]
    · have hl : ∀ g : Nat → Nat → Int32, (rwL cI K q g N).length ≤ k := fun g => by unfold rwL; rw [List.length_map, List.length_range]; omega
      rw [List.getElem?_eq_none (hl _), List.getElem?_eq_none (hl _)]
theorem rwL_2 {a b : Nat × va_E} {cI : ClassId} {K q : Nat} {f : Nat → Nat → Int32} {N i : Nat} (h : i < N) : ([a, b] ++ rwL cI K q f N)[i + 2]? = some (q + 1 + i, .inl (cI, K, .inl (f i))) := rwL_at h
theorem rwL_2s {a b : Nat × va_E} {cI : ClassId} {K q : Nat} {f : Nat → Nat → Int32} {N i : Nat} {g : Nat → Int32} (h : i < N) : ([a, b] ++ rwL cI K q f N).set (i + 2) (q + 1 + i, .inl (cI, K, .inl g)) = [a, b] ++ rwL cI K q (updR f i g) N := by
  show a :: b :: (rwL cI K q f N).set i _ = _
  rw [rwL_set h]
  rfl
theorem a_mnew (hexec : p.tables.exec = Jvm.exec) (hb : c.code = cc) {own : String} {index : Nat} (hown : s.vm.findClass own = some m.cls) (hclink : (Cond.classLink own index "[[I").before args s = true) (hover : (Cond.arrayOver (.array .int)).before args s = true) (harr : (Cond.arrayClass .int).before args s = true) (hK : va_K D cl tys s) (hP : va_P D cl ws H) (hD : va_D A ws) (hS : va_S A H0 H locs) (hA : ∀ q, H0.size ≤ q → A q) (t0 t1 : Nat) {cO cI : ClassId} (ht0 : tys[t0]? = some (cO, .array .int)) (ht1 : tys[t1]? = some (cI, .int)) {N K : Nat} (hN : N ≤ 1000) (hK' : K ≤ 1000) (hcells : cells + (1 + N) ≤ R.cells) (hslots : slots + (N + N * K) ≤ R.slots) (hdg : decode cc pc = .ok (.multianewarray index 2, 4))
    (kk : ∀ (q : Nat) (H1 : Heap) (locs1 : List Loc), va_P D cl (ws ++ (q, .inl (cO, N, .inr (.inr (.inr (.inr (fun i => some (q + 1 + i))))))) :: rwL cI K q (fun _ _ => 0) N) H1 → va_D A (ws ++ (q, .inl (cO, N, .inr (.inr (.inr (.inr (fun i => some (q + 1 + i))))))) :: rwL cI K q (fun _ _ => 0) N) → va_S A H0 H1 locs1 → W p l e R s m args below meth c H1 locs1 (cells + 1 + N) (slots + N + N * K) Q (F0 m (pc + 4) ls (.ref q :: rest))) : W p l e R s m args below meth c H locs cells slots Q (F0 m pc ls (.int (nI K) :: .int (nI N) :: rest)) := by
  intro T hT X
  have cN : (nI N).toNatClampNeg = N := nI_clamp (by omega)
  have cK : (nI K).toNatClampNeg = K := nI_clamp (by omega)
  obtain ⟨vm₁, cA, comp, hW, hfA, hfC, -, -, X1, step⟩ := X.multianewarray2F hexec hown hclink hover harr (g := F0 m pc ls (.int (nI K) :: .int (nI N) :: rest)) rfl (by rw [hb]; exact hdg) (n := nI N) (k := nI K) (rest := rest) rfl (nI_pos (by omega)) (nI_pos (by omega)) (by rw [cN]; omega) (by rw [cK]; show K * 4 ≤ _; omega) (by rw [cK]; omega) rfl rfl (by rw [cN]; exact hcells) (by rw [cN, cK]; exact hslots)
  rw [cN, cK] at X1 step
  have hO : cA = cO := by
    have h2 : s.vm.findClass "[[I" = some cO := (hK.2 t0 _ ht0).2
    exact Option.some.inj (hfA.symm.trans h2)
  have hI : comp = cI := by
    have h2 : s.vm.findClass "[I" = some cI := (hK.2 t1 _ ht1).2
    exact Option.some.inj (hfC.symm.trans h2)
  subst hO hI
  obtain ⟨f1, f2, -, -⟩ := Jvm.Free.Multi.fill_facts (T.setVm vm₁) cA comp N K (defaultValue .int) N
  have hsz : (T.setVm vm₁).heap.size = H.size := by rw [← hT]; rfl
  have hold : ∀ x : Nat, x < H.size → (Jvm.Free.Multi.fill (T.setVm vm₁) cA comp N K (defaultValue .int) N).heap[x]? = H[x]? := by
    intro x hx
    rw [Jvm.Free.Multi.fill_old (T.setVm vm₁) cA comp _ _ _ (by rw [hsz]; exact hx), ← hT]
    rfl
  have hout : Jvm.Free.Multi.outerC cA N H.size N = vp_cell cA (N, .inr (.inr (.inr (.inr (fun i => some (H.size + 1 + i)))))) := by
    obtain ⟨o1, o2, o3⟩ := Jvm.Free.Multi.outerC_facts cA N H.size N
    obtain ⟨o4, o5⟩ := oC_plain cA N H.size N
    have o6 : (Jvm.Free.Multi.outerC cA N H.size N).slots = Array.ofFn (n := N) (fun j => va_rf (some (H.size + 1 + j.val))) := by
      apply Array.ext
      · rw [o3, Array.size_ofFn]
      · intro i h1 h2
        have h3 := Jvm.Free.Multi.outerC_slot cA N H.size N i (by rw [o3] at h1; exact h1)
        rw [if_pos (by rw [o3] at h1; exact h1), Array.getElem?_eq_getElem h1] at h3
        rw [Array.getElem_ofFn]
        exact Option.some.inj h3
    show Jvm.Free.Multi.outerC cA N H.size N = ({ cls := cA, slots := Array.ofFn (n := N) fun j => va_rf (some (H.size + 1 + j.val)), vm := .none } : Cell)
    revert o1 o2 o4 o5 o6
    cases Jvm.Free.Multi.outerC cA N H.size N
    intro o1 o2 o4 o5 o6
    dsimp only at o1 o2 o4 o5 o6
    subst o1 o2 o4 o5 o6
    rfl
  have hin : ∀ j, j < N → (Jvm.Free.Multi.fill (T.setVm vm₁) cA comp N K (defaultValue .int) N).heap[H.size + 1 + j]? = some (vp_cell comp (K, .inl (fun _ => 0))) := by
    intro j hj
    have h3 := Jvm.Free.Multi.fill_inner (T.setVm vm₁) cA comp N K (defaultValue .int) N j hj
    rw [hsz] at h3
    rw [h3]
    exact congrArg some (arrV_new comp K (.int 0))
  have key : ∃ t, Steps p.tables e below ((Jvm.Free.Multi.fill (T.setVm vm₁) cA comp N K (defaultValue .int) N).setTop (F0 m (pc + 4) ls (.ref H.size :: rest))) t ∧ Q t := by
    refine kk H.size (Jvm.Free.Multi.fill (T.setVm vm₁) cA comp N K (defaultValue .int) N).heap locs ?_ ?_ ?_ _ rfl X1
    · intro k q hk
      rcases Nat.lt_or_ge k ws.length with h | h
      · rw [List.getElem?_append_left h] at hk
        exact (hP.kept (fun k x hx => hold x.1 (hP k x hx).lt)) k q hk
      · rw [List.getElem?_append_right h] at hk
        cases hj : k - ws.length with
        | zero =>
          rw [hj] at hk
          cases hk
          show (Jvm.Free.Multi.fill (T.setVm vm₁) cA comp N K (defaultValue .int) N).heap[H.size]? = some (vp_cell cA _)
          rw [← hout, ← hsz]
          exact f2
        | succ j =>
          rw [hj] at hk
          obtain ⟨h1, rfl⟩ := rwL_mem hk
          exact hin j h1
    · refine ⟨?_, ?_⟩
      · intro i j p q hi hj e
        rcases Nat.lt_or_ge i ws.length with h | h
        · rw [List.getElem?_append_left h] at hi
          rcases Nat.lt_or_ge j ws.length with h' | h'
          · rw [List.getElem?_append_left h'] at hj
            exact hD.1 i j p q hi hj e
          · exfalso
            rw [List.getElem?_append_right h'] at hj
            have l1 := (hP i p hi).lt
            cases hj' : j - ws.length with
            | zero => rw [hj'] at hj; cases hj; change p.1 = H.size at e; omega
            | succ j2 => rw [hj'] at hj; obtain ⟨h1, rfl⟩ := rwL_mem hj; change p.1 = H.size + 1 + j2 at e; omega
        · rw [List.getElem?_append_right h] at hi
          rcases Nat.lt_or_ge j ws.length with h' | h'
          · exfalso
            rw [List.getElem?_append_left h'] at hj
            have l1 := (hP j q hj).lt
            cases hi' : i - ws.length with
            | zero => rw [hi'] at hi; cases hi; change H.size = q.1 at e; omega
            | succ i2 => rw [hi'] at hi; obtain ⟨h1, rfl⟩ := rwL_mem hi; change H.size + 1 + i2 = q.1 at e; omega
          · rw [List.getElem?_append_right h'] at hj
            cases hi' : i - ws.length with
            | zero =>
              rw [hi'] at hi; cases hi
              cases hj' : j - ws.length with
              | zero => omega
              | succ j2 => exfalso; rw [hj'] at hj; obtain ⟨h1, rfl⟩ := rwL_mem hj; change H.size = H.size + 1 + j2 at e; omega
            | succ i2 =>
              rw [hi'] at hi; obtain ⟨h1, rfl⟩ := rwL_mem hi
              cases hj' : j - ws.length with
              | zero => exfalso; rw [hj'] at hj; cases hj; change H.size + 1 + i2 = H.size at e; omega
              | succ j2 => rw [hj'] at hj; obtain ⟨h2, rfl⟩ := rwL_mem hj; change H.size + 1 + i2 = H.size + 1 + j2 at e; omega
      · intro k q hk
        rcases Nat.lt_or_ge k ws.length with h | h
        · rw [List.getElem?_append_left h] at hk
          exact hD.2 k q hk
        · rw [List.getElem?_append_right h] at hk
          have h0 := hS.1
          cases hj : k - ws.length with
          | zero => rw [hj] at hk; cases hk; exact hA _ h0
          | succ j => rw [hj] at hk; obtain ⟨h1, rfl⟩ := rwL_mem hk; exact hA _ (by show H0.size ≤ H.size + 1 + j; omega)
    · have h1 : (Jvm.Free.Multi.fill (T.setVm vm₁) cA comp N K (defaultValue .int) N).heap.size = H.size + 1 + N := by rw [f1, hsz]
      exact ⟨Nat.le_trans hS.1 (by rw [h1]; omega), fun x h2 h3 => (hold x (Nat.lt_of_lt_of_le h2 hS.1)).trans (hS.2.1 x h2 h3), hS.2.2⟩
  obtain ⟨t, a, b⟩ := key
  refine ⟨t, step t ?_, b⟩
  rw [hT]
  exact a
end KRA
