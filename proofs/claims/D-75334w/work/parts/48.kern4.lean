/-! throwing: the words of a throw, the two statics of Throwable -/
def isDcl : Cond → Bool
  | .declares _ => true
  | .castable _ _ => true
  | _ => false
theorem hatZ {l : Launch} {dC : Nat → ClassId} {dI : Nat → Nat → Nat} {dA : Nat → ClassId} {s0 s : State} {b0 : Addr} {A : Nat → Prop} {args : Array Value} {H : Heap} (Z : Z0 l dC dI dA s0 b0) (hG : Gd s0 A s H) {L : List Cond} (h1 : L.all (fun w => decide (w ∈ lw_tbl)) = true) (h2 : L.all (fun w => goodWord w || isDcl w) = true) : ∀ w ∈ L, w.before args s = true := by
  intro w hw
  have m1 := of_decide_eq_true (List.all_eq_true.mp h1 w hw)
  have m2 := List.all_eq_true.mp h2 w hw
  have b := Z.2.1 w m1
  rw [Bool.or_eq_true] at m2
  rcases m2 with g | g
  · exact word_at hG.1 (good_of_word g) b
  · cases w <;> first | exact (va_Nw.warmD hG.1 (va_Nw.of rfl b)).use rfl | exact (va_Nw.warmC hG.1 (va_Nw.of rfl b)).use rfl | exact Bool.noConfusion g
theorem Gd.Zq {s0 U : State} {A : Nat → Prop} {H : Heap} {C n d : String} (h : Gd s0 A U H) (z : vx_Zq C n d (fun _ => False) s0 s0.heap) : vx_Zq C n d A U H := by
  have key : ∀ {v : Value}, va_Z C n d v (fun _ => False) s0 s0.heap → va_Z C n d v A U H := by
    intro v z
    obtain ⟨cf, kf, fi, f, a, cell, h1, h2, h3, h4, h5, h6, h7, -⟩ := va_Z.moved h.1.alike z
    have ha : a < s0.heap.size := by
      rcases Nat.lt_or_ge a s0.heap.size with c | c
      · exact c
      · rw [Array.getElem?_eq_none c] at h5; cases h5
    have hq := h.2.2 a ha
    exact ⟨cf, kf, fi, f, a, cell, h1, h2, h3, h4, by rw [hq.1]; exact h5, h6, h7, hq.2⟩
  have z2 := vx_Zq.moved h.1.alike z
  refine ⟨?_, ?_⟩
  · rcases z.1 with z1 | ⟨t, z1⟩
    · exact Or.inl (key z1)
    · exact Or.inr ⟨t, key z1⟩
  · obtain ⟨c, k, i, f, a, cell, h1, h2, h3, h4, h5, h6, h7, h8, h9, -⟩ := z2.2
    have ha : a < s0.heap.size := by
      rcases Nat.lt_or_ge a s0.heap.size with e | e
      · exact e
      · rw [Array.getElem?_eq_none e] at h5; cases h5
    have hq := h.2.2 a ha
    exact ⟨c, k, i, f, a, cell, h1, h2, h3, h4, by rw [hq.1]; exact h5, h6, h7, h8, h9, hq.2⟩
/-- the two statics of Throwable -/
def ST (s0 : State) : Prop := vx_Zq Bundle.tN "UNASSIGNED_STACK" Bundle.steD (fun _ => False) s0 s0.heap ∧ vx_Zq Bundle.tN "SUPPRESSED_SENTINEL" Bundle.listD (fun _ => False) s0 s0.heap
