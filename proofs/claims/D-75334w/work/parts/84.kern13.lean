/-! cells that a method keeps aside: a list behind its own -/
theorem P_mem {D : va_G} {cl : List vw_C} {ws : va_W} {H : Heap} : va_P D cl ws H ↔ ∀ q ∈ ws, va_at D cl q H := by
  constructor
  · intro h q hq
    obtain ⟨k, hk⟩ := List.getElem?_of_mem hq
    exact h k q hk
  · intro h k q hk
    exact h q (List.mem_of_getElem? hk)
theorem D_mem {A : Nat → Prop} {ws : va_W} : va_D A ws ↔ (ws.map (·.1)).Nodup ∧ ∀ q ∈ ws, A q.1 := by
  constructor
  · intro h
    refine ⟨?_, fun q hq => ?_⟩
    · show List.Pairwise _ _
      rw [List.pairwise_iff_getElem]
      intro i j hi hj hij e
      rw [List.length_map] at hi hj
      rw [List.getElem_map, List.getElem_map] at e
      have := h.1 i j _ _ (List.getElem?_eq_getElem hi) (List.getElem?_eq_getElem hj) e
      omega
    · obtain ⟨k, hk⟩ := List.getElem?_of_mem hq
      exact h.2 k q hk
  · intro h
    refine ⟨fun i j p q hi hj e => ?_, fun k q hk => h.2 q (List.mem_of_getElem? hk)⟩
    have hn := List.pairwise_iff_getElem.mp (show List.Pairwise _ _ from h.1)
    have key : ∀ a b : Nat, a < b → b < ws.length → (ws.map (·.1))[a]? ≠ (ws.map (·.1))[b]? := fun a b hab hb z => by
      have ha' : a < (ws.map (·.1)).length := by rw [List.length_map]; omega
      have hb' : b < (ws.map (·.1)).length := by rw [List.length_map]; exact hb
      rw [List.getElem?_eq_getElem ha', List.getElem?_eq_getElem hb'] at z
      exact hn a b ha' hb' hab (Option.some.inj z)
    have hi' := (List.getElem?_eq_some_iff.mp hi).1
    have hj' := (List.getElem?_eq_some_iff.mp hj).1
    rcases Nat.lt_trichotomy i j with c | c | c
    · exact absurd (by rw [List.getElem?_map, List.getElem?_map, hi, hj]; exact congrArg some e) (key i j c hj')
    · exact c
    · exact absurd (by rw [List.getElem?_map, List.getElem?_map, hi, hj]; exact congrArg some e.symm) (key j i c hi')
theorem permP {D : va_G} {cl : List vw_C} {ws ws' : va_W} {H : Heap} (p : ws.Perm ws') (h : va_P D cl ws H) : va_P D cl ws' H := P_mem.mpr (fun q hq => P_mem.mp h q (p.mem_iff.mpr hq))
theorem permD {A : Nat → Prop} {ws ws' : va_W} (p : ws.Perm ws') (h : va_D A ws) : va_D A ws' := by
  obtain ⟨h1, h2⟩ := D_mem.mp h
  exact D_mem.mpr ⟨(p.map _).nodup_iff.mp h1, fun q hq => h2 q (p.mem_iff.mpr hq)⟩
theorem rotL {α : Type} (a b c : List α) : ((a ++ b) ++ c).Perm ((a ++ c) ++ b) := by
  rw [List.append_assoc, List.append_assoc]
  exact List.Perm.append_left a List.perm_append_comm
theorem nrmL {α : Type} (a b c d : List α) : ((a ++ b) ++ (c ++ d)).Perm ((a ++ c) ++ (b ++ d)) := by
  rw [← List.append_assoc, ← List.append_assoc (a ++ c)]
  exact (rotL a b c).append_right d
theorem rotP {D : va_G} {cl : List vw_C} {a b c : va_W} {H : Heap} (h : va_P D cl ((a ++ b) ++ c) H) : va_P D cl ((a ++ c) ++ b) H := permP (rotL a b c) h
theorem rotD {A : Nat → Prop} {a b c : va_W} (h : va_D A ((a ++ b) ++ c)) : va_D A ((a ++ c) ++ b) := permD (rotL a b c) h
theorem nrmP {D : va_G} {cl : List vw_C} {a b c d : va_W} {H : Heap} (h : va_P D cl ((a ++ b) ++ (c ++ d)) H) : va_P D cl ((a ++ c) ++ (b ++ d)) H := permP (nrmL a b c d) h
theorem nrmD {A : Nat → Prop} {a b c d : va_W} (h : va_D A ((a ++ b) ++ (c ++ d))) : va_D A ((a ++ c) ++ (b ++ d)) := permD (nrmL a b c d) h
theorem appP {D : va_G} {cl : List vw_C} {a b : va_W} {H : Heap} (h : va_P D cl (a ++ b) H) : va_P D cl a H ∧ va_P D cl b H :=
  ⟨P_mem.mpr (fun q hq => P_mem.mp h q (List.mem_append_left _ hq)), P_mem.mpr (fun q hq => P_mem.mp h q (List.mem_append_right _ hq))⟩
theorem appD {A : Nat → Prop} {a b : va_W} (h : va_D A (a ++ b)) : va_D A a ∧ va_D A b := by
  obtain ⟨h1, h2⟩ := D_mem.mp h
  rw [List.map_append, List.nodup_append] at h1
  exact ⟨D_mem.mpr ⟨h1.1, fun q hq => h2 q (List.mem_append_left _ hq)⟩, D_mem.mpr ⟨h1.2.1, fun q hq => h2 q (List.mem_append_right _ hq)⟩⟩
theorem sub_mem {α : Type} {a a' : List α} (is : List Nat) (hs : is.map (fun i => a[i]?) = a'.map some) : ∀ q ∈ a', q ∈ a := by
  intro q hq
  have h2 : some q ∈ a'.map some := List.mem_map.mpr ⟨q, hq, rfl⟩
  rw [← hs] at h2
  obtain ⟨i, -, hi⟩ := List.mem_map.mp h2
  exact List.mem_of_getElem? hi
theorem subPA {D : va_G} {cl : List vw_C} {a a' im : va_W} {H : Heap} (h : va_P D cl (a ++ im) H) (is : List Nat) (hs : is.map (fun i => a[i]?) = a'.map some) : va_P D cl (a' ++ im) H := by
  refine P_mem.mpr (fun q hq => P_mem.mp h q ?_)
  rcases List.mem_append.mp hq with h1 | h1
  · exact List.mem_append_left _ (sub_mem is hs q h1)
  · exact List.mem_append_right _ h1
theorem subDA {A : Nat → Prop} {a a' im : va_W} (h : va_D A (a ++ im)) (is : List Nat) (hn : va_nd is = true) (hs : is.map (fun i => a[i]?) = a'.map some) : va_D A (a' ++ im) := by
  obtain ⟨h1, h2⟩ := D_mem.mp h
  rw [List.map_append, List.nodup_append] at h1
  have h3 : va_D A a' := (appD h).1.sub is hn hs
  refine D_mem.mpr ⟨?_, fun q hq => ?_⟩
  · rw [List.map_append, List.nodup_append]
    refine ⟨(D_mem.mp h3).1, h1.2.1, fun x hx y hy => ?_⟩
    obtain ⟨q, hq, rfl⟩ := List.mem_map.mp hx
    exact h1.2.2 _ (List.mem_map.mpr ⟨q, sub_mem is hs q hq, rfl⟩) y hy
  · rcases List.mem_append.mp hq with h4 | h4
    · exact (D_mem.mp h3).2 q h4
    · exact h2 q (List.mem_append_right _ h4)
/-- the places of a call's cells and of those beside them, where a list stands behind -/
theorem imC {a im wc : va_W} {isC : List Nat} (h : isC.map (fun i => a[i]?) = wc.map some) : isC.map (fun i => (a ++ im)[i]?) = wc.map some := by
  rw [← h]
  apply List.map_congr_left
  intro i hi
  have : some a[i]? ∈ (isC.map (fun i => some a[i]?)) := List.mem_map.mpr ⟨i, hi, rfl⟩
  have h2 : a[i]? ∈ wc.map some := by rw [← h]; exact List.mem_map.mpr ⟨i, hi, rfl⟩
  obtain ⟨q, -, hq⟩ := List.mem_map.mp h2
  have hl := (List.getElem?_eq_some_iff.mp hq.symm).1
  exact List.getElem?_append_left hl
theorem imR {a im we : va_W} {isE : List Nat} (h : isE.map (fun i => a[i]?) = we.map some) : (isE ++ (List.range im.length).map (· + a.length)).map (fun i => (a ++ im)[i]?) = (we ++ im).map some := by
  rw [List.map_append, List.map_append, imC h]
  congr 1
  apply List.ext_getElem?
  intro k
  rw [List.getElem?_map, List.getElem?_map, List.getElem?_map]
  by_cases c : k < im.length
  · rw [List.getElem?_range c]
    show some ((a ++ im)[k + a.length]?) = _
    rw [List.getElem?_append_right (by omega), Nat.add_sub_cancel, List.getElem?_eq_getElem c]
    rfl
  · rw [List.getElem?_eq_none (by rw [List.length_range]; omega), List.getElem?_eq_none (l := im) (by omega)]
    rfl
theorem nd_iff : ∀ l : List Nat, va_nd l = true ↔ l.Nodup
  | [] => by simp [va_nd]
  | a :: l => by
    unfold va_nd
    rw [Bool.and_eq_true, decide_eq_true_iff, nd_iff l, List.nodup_cons]
theorem imN {isE : List Nat} {n k : Nat} (h : va_nd isE = true) (hb : ∀ i ∈ isE, i < n) : va_nd (isE ++ (List.range k).map (· + n)) = true := by
  rw [nd_iff] at h ⊢
  rw [List.nodup_append]
  refine ⟨h, ?_, fun x hx y hy => ?_⟩
  · show List.Pairwise _ _
    rw [List.pairwise_iff_getElem]
    intro i j hi hj hij e
    rw [List.getElem_map, List.getElem_map, List.getElem_range, List.getElem_range] at e
    omega
  · obtain ⟨z, -, rfl⟩ := List.mem_map.mp hy
    have := hb x hx
    omega
theorem imD {isE isC : List Nat} {n k : Nat} (h : ∀ i ∈ isE, i ∉ isC) (hb : ∀ i ∈ isC, i < n) : ∀ i ∈ isE ++ (List.range k).map (· + n), i ∉ isC := by
  intro i hi
  rcases List.mem_append.mp hi with c | c
  · exact h i c
  · obtain ⟨z, -, rfl⟩ := List.mem_map.mp c
    intro d
    have := hb _ d
    omega
/-- the list behind, at a call: read alone -/
theorem RO.im {A : Nat → Prop} {D : va_G} {a im wc : va_W} {H : Heap} (hP : va_P D vwCl (a ++ im) H) (hD : va_D A (a ++ im)) {isC : List Nat} (hC : isC.map (fun i => a[i]?) = wc.map some) : RO (va_A wc H.size) D im H := by
  refine ⟨(appP hP).2, fun k q hk c => ?_⟩
  obtain ⟨h1, -⟩ := D_mem.mp hD
  rw [List.map_append, List.nodup_append] at h1
  rcases c with ⟨j, e, hj⟩ | c
  · have hm : some (q.1, e) ∈ wc.map some := List.mem_map.mpr ⟨_, List.mem_of_getElem? hj, rfl⟩
    rw [← hC] at hm
    obtain ⟨i, -, hi⟩ := List.mem_map.mp hm
    exact h1.2.2 q.1 (List.mem_map.mpr ⟨_, List.mem_of_getElem? hi, rfl⟩) q.1 (List.mem_map.mpr ⟨q, List.mem_of_getElem? hk, rfl⟩) rfl
  · exact absurd ((appP hP).2 k q hk).lt (Nat.not_lt.mpr c)
/-- a cell of the list is in the heap -/
theorem imAt {D : va_G} {im : va_W} {H : Heap} {q : Nat × va_E} (h : va_P D vwCl im H) (hq : q ∈ im) : va_P D vwCl [q] H := P_mem.mpr (fun z hz => by rw [List.mem_singleton.mp hz]; exact P_mem.mp h q hq)
theorem imAll {D : va_G} {im l : va_W} {H : Heap} (h : va_P D vwCl im H) (hq : ∀ q ∈ l, q ∈ im) : va_P D vwCl l H := P_mem.mpr (fun z hz => P_mem.mp h z (hq z hz))
theorem RO.all {A : Nat → Prop} {D : va_G} {im l : va_W} {H : Heap} (h : RO A D im H) (hq : ∀ q ∈ l, q ∈ im) : RO A D l H := by
  refine ⟨imAll h.1 hq, fun k q hk => ?_⟩
  obtain ⟨j, hj⟩ := List.getElem?_of_mem (hq q (List.mem_of_getElem? hk))
  exact h.2 j q hj
