/-! the machine runs -/
theorem MSm_div {v : Nat} (hv : 1 ≤ v) (hv8 : v < 100000000) {M : MV} (hM : MSm M) : MSm (divM v M) := by
  unfold divM
  split
  · rename_i P e; exact scaS_sm (lN_sm (by omega)) (lN_nz (by omega) (by omega)) hM e
  · exact hM
theorem lt_of_ch {T : Nat → Nat} {ln i k : Nat} (hk : k ≠ 256) (h : ch T ln i = k) : i < ln := by
  by_cases c : i < ln
  · exact c
  · rw [ch_ge c] at h; exact absurd h.symm hk
theorem dE_gt {T : Nat → Nat} {ln i : Nat} (h : isD (ch T ln i) = true) : i < dE T ln i := by
  have h1 : dE T ln i = dE T ln (i + 1) := runE_t (D_in rfl h) h
  have h2 : i + 1 ≤ dE T ln (i + 1) := runE_ge
  omega
theorem numE_d {T : Nat → Nat} {ln l i : Nat} (h : numE T ln l i = 0) : isD (ch T ln i) = true := by
  unfold numE at h
  split at h
  · cases h
  · rename_i c; exact Bool.of_not_eq_false c
theorem stO_PI {T : Nat → Nat} {ln p q r : Nat} {Ms : Nat → MV} {x : PS} (hln : ln ≤ 200) (sR : ∀ k, k < 8 → MSm (Ms k)) (h : PI ln x) (hw : x.wants = true) {y : PS} {b : Bool} (e : stO T ln p q r Ms x = Sum.inr (y, b)) : PI ln y ∧ b = true ∧ x.at_ < ln ∧ x.at_ < y.at_ := by
  obtain ⟨h1, h2, h3, h4, h5, h6, h7, h8⟩ := h
  rw [if_pos hw] at h4
  have hs1 : x.at_ ≤ sk T ln x.at_ := runE_ge
  have hs2 : sk T ln x.at_ ≤ ln := runE_le h1
  unfold stO at e
  split at e
  · rename_i c
    have hl := lt_of_ch (by decide) c.1
    cases e
    refine ⟨⟨by show _ + 1 ≤ ln; omega, ⟨Or.inr (by rw [(h5 c.2).2]; decide), h2⟩, by rw [opens_c]; exact h3, ?_, fun h => (by cases h), h6, ?_, h8⟩, rfl, by omega, by show _ < _ + 1; omega⟩
    · show x.S.length = bins x.ops + 0 + 0; omega
    · intro c hc
      rcases List.mem_cons.mp hc with rfl | hc
      · exact ⟨Nat.le_of_ble_eq_true rfl, by show sk T ln x.at_ < 1000; omega⟩
      · exact h7 c hc
  · split at e
    · rename_i c
      split at e
      · have hl := dE_gt c
        have hl2 : dE T ln (sk T ln x.at_) ≤ ln := runE_le hs2
        cases e
        refine ⟨⟨hl2, h2, h3, ?_, fun h => (by cases h), h6, h7, ?_⟩, rfl, by omega, by show _ < dE T ln (sk T ln x.at_); omega⟩
        · show x.S.length + 1 = bins x.ops + 1; omega
        · intro M hM
          rcases List.mem_cons.mp hM with rfl | hM
          · exact MSm_num numV8
          · exact h8 M hM
      · cases e
    · split at e
      · rename_i c
        have hl : sk T ln x.at_ < ln := by rcases c with c | c <;> exact lt_of_ch (by decide) c
        split at e
        · rename_i d
          have hl1 : sk T ln x.at_ + 1 ≤ dE T ln (sk T ln x.at_ + 1) := runE_ge
          have hl2 : dE T ln (sk T ln x.at_ + 1) ≤ ln := runE_le (by omega)
          cases e
          refine ⟨⟨hl2, h2, h3, ?_, fun h => (by cases h), h6, h7, ?_⟩, rfl, by omega, by show _ < dE T ln (sk T ln x.at_ + 1); omega⟩
          · show x.S.length + 1 = bins x.ops + 1; omega
          · intro M hM
            rcases List.mem_cons.mp hM with rfl | hM
            · exact namM_sm d sR
            · exact h8 M hM
        · cases e
      · split at e
        · rename_i c
          have hl := lt_of_ch (by decide) c
          split at e
          · cases e
          · rename_i d
            cases e
            refine ⟨⟨by show _ + 1 ≤ ln; omega, ⟨Or.inl rfl, h2⟩, ?_, ?_, fun _ => ⟨rfl, rfl⟩, h6, ?_, h8⟩, rfl, by omega, by show _ < _ + 1; omega⟩
            · show opens ((40, sk T ln x.at_) :: x.ops) ≤ 12
              rw [opens_c, if_pos rfl]; omega
            · show x.S.length = bins x.ops + 0 + 0; omega
            · intro c hc
              rcases List.mem_cons.mp hc with rfl | hc
              · exact ⟨Nat.le_of_ble_eq_true rfl, by show sk T ln x.at_ < 1000; omega⟩
              · exact h7 c hc
        · cases e
theorem topS_sm {f : MV → MV} (hf : ∀ M, MSm M → MSm (f M)) : ∀ {S : List MV}, (∀ M ∈ S, MSm M) → ∀ M ∈ topS f S, MSm M
  | [], h => h
  | M :: R, h => fun X hX => by
    rcases List.mem_cons.mp hX with rfl | hX
    · exact hf M (h M (List.mem_cons_self ..))
    · exact h X (List.mem_cons_of_mem _ hX)
theorem topS_len {f : MV → MV} : ∀ {S : List MV}, (topS f S).length = S.length
  | [] => rfl
  | _ :: _ => rfl
theorem stB_PI {T : Nat → Nat} {ln p q r : Nat} (hn : p + q + r ≤ 5) {x : PS} (hln : ln ≤ 200) (h : PI ln x) (hw : x.wants = false) {y : PS} {b : Bool} (e : stB T ln p q r x = Sum.inr (y, b)) : PI ln y ∧ (b = true → x.at_ < ln ∧ x.at_ < y.at_) ∧ (b = false → y.ops = [] ∧ ∃ M, y.S = [M]) := by
  obtain ⟨h1, h2, h3, h4, h5, h6, h7, h8⟩ := h
  have hb : x.begins = false := by
    cases hx : x.begins with
    | false => rfl
    | true => exact absurd (h5 hx).1 (by rw [hw]; decide)
  rw [if_neg (by rw [hw]; decide)] at h4
  have hs1 : x.at_ ≤ sk T ln x.at_ := runE_ge
  have hs2 : sk T ln x.at_ ≤ ln := runE_le h1
  unfold stB at e
  split at e
  · rename_i c
    obtain ⟨g1, g2, g3, g4, g5, g6, g7, g8⟩ := setP_inv hn (Nat.le_refl 1) x.ops x.S x.unf h2 h4 h6 h7 h8
    have hnil : (setP p q r 1 x.ops (x.S, x.unf)).1 = [] := by
      rcases hz : (setP p q r 1 x.ops (x.S, x.unf)).1 with _ | ⟨⟨a, k⟩, w⟩
      · rfl
      · exfalso
        rw [hz] at g1 g6 g7
        rw [opens_c, c.2] at g6
        have g7 : (if a = 40 then 0 else lvl a) < 1 := g7
        by_cases ea : a = 40
        · rw [if_pos ea] at g6; omega
        · rw [if_neg ea] at g7
          rcases g1.1 with d | d
          · exact ea d
          · omega
    cases e
    refine ⟨⟨hs2, g1, by show opens (setP p q r 1 x.ops (x.S, x.unf)).1 ≤ 12; omega, g2, fun h => absurd (hb.symm.trans h) (by decide), g3, g4, g5⟩, fun h => (by cases h), fun _ => ⟨hnil, ?_⟩⟩
    rw [hnil] at g2
    show ∃ M, (setP p q r 1 x.ops (x.S, x.unf)).2.1 = [M]
    match (setP p q r 1 x.ops (x.S, x.unf)).2.1, g2 with
    | [M], _ => exact ⟨M, rfl⟩
  · split at e
    · rename_i c
      have hl := lt_of_ch (by decide) c.1
      split at e
      · rename_i d
        have hi1 : sk T ln x.at_ + 1 ≤ sk T ln (sk T ln x.at_ + 1) := runE_ge
        have hi2 : sk T ln (sk T ln x.at_ + 1) ≤ ln := runE_le (by omega)
        have hd := dE_gt (numE_d d)
        have hd2 : dE T ln (sk T ln (sk T ln x.at_ + 1)) ≤ ln := runE_le hi2
        cases e
        refine ⟨⟨hd2, h2, h3, ?_, fun h => absurd (hb.symm.trans h) (by decide), h6, h7, topS_sm (fun M hM => MSm_div (numE_v d) numV8 hM) h8⟩, fun _ => ⟨by omega, by show _ < dE T ln (sk T ln (sk T ln x.at_ + 1)); omega⟩, fun h => by cases h⟩
        show (topS _ x.S).length = bins x.ops + 1
        rw [topS_len]; exact h4
      · cases e
    · split at e
      · rename_i c
        have hl : sk T ln x.at_ < ln := by rcases c with c | c <;> exact lt_of_ch (by decide) c
        cases e
        refine ⟨⟨by show _ + 1 ≤ ln; omega, h2, h3, ?_, fun h => absurd (hb.symm.trans h) (by decide), h6, h7, topS_sm (fun M hM => trnS_sm hn hM) h8⟩, fun _ => ⟨by omega, by show _ < _ + 1; omega⟩, fun h => by cases h⟩
        show (topS _ x.S).length = bins x.ops + 1
        rw [topS_len]; exact h4
      · split at e
        · rename_i c
          have hl := lt_of_ch (by decide) c.1
          obtain ⟨g1, g2, g3, g4, g5, g6, g7, g8⟩ := setP_inv hn (Nat.le_refl 1) x.ops x.S x.unf h2 h4 h6 h7 h8
          obtain ⟨k, w, hz⟩ := top1 g1 g7 (by rw [g6]; exact c.2)
          cases e
          rw [hz] at g1 g2 g4 g6
          rw [opens_c, if_pos rfl] at g6
          refine ⟨⟨by show _ + 1 ≤ ln; omega, ?_, ?_, ?_, fun h => absurd (hb.symm.trans h) (by decide), g3, ?_, g5⟩, fun _ => ⟨by omega, by show _ < _ + 1; omega⟩, fun h => by cases h⟩
          · show WfO (setP p q r 1 x.ops (x.S, x.unf)).1.tail
            rw [hz]; exact g1.2
          · show opens (setP p q r 1 x.ops (x.S, x.unf)).1.tail ≤ 12
            rw [hz]; show opens w ≤ 12; omega
          · show (setP p q r 1 x.ops (x.S, x.unf)).2.1.length = bins (setP p q r 1 x.ops (x.S, x.unf)).1.tail + 1
            rw [hz]; exact g2
          · show ∀ c ∈ (setP p q r 1 x.ops (x.S, x.unf)).1.tail, c.1 < 256 ∧ c.2 < 1000
            rw [hz]; exact fun c hc => g4 c (List.mem_cons_of_mem _ hc)
        · split at e
          · rename_i c
            obtain ⟨g1, g2, g3, g4, g5, g6, g7, g8⟩ := setP_inv hn c.1 x.ops x.S x.unf h2 h4 h6 h7 h8
            have hlc := lvl_c c.1
            have hl : sk T ln x.at_ < ln := lt_of_ch (k := ch T ln (sk T ln x.at_)) (by omega) rfl
            cases e
            refine ⟨⟨by show _ + 1 ≤ ln; omega, ⟨Or.inr g7, g1⟩, ?_, ?_, fun h => absurd (hb.symm.trans h) (by decide), g3, ?_, g5⟩, fun _ => ⟨by omega, by show _ < _ + 1; omega⟩, fun h => by cases h⟩
            · show opens ((ch T ln (sk T ln x.at_), sk T ln x.at_) :: _) ≤ 12
              rw [opens_c, if_neg (lvl_40 c.1), g6]; exact h3
            · show _ = bins _ + (if ch T ln (sk T ln x.at_) = 40 ∨ ch T ln (sk T ln x.at_) = 110 then 0 else 1) + 0
              rw [if_neg (fun h => h.elim (lvl_40 c.1) c.2)]; exact g2
            · intro d hd
              rcases List.mem_cons.mp hd with rfl | hd
              · exact ⟨hlc, by show sk T ln x.at_ < 1000; omega⟩
              · exact g4 d hd
          · cases e
def stP (T : Nat → Nat) (ln p q r : Nat) (Ms : Nat → MV) (x : PS) : PR := if x.wants = true then stO T ln p q r Ms x else stB T ln p q r x
/-- the machine, to its end -/
def runP (T : Nat → Nat) (ln p q r : Nat) (Ms : Nat → MV) : Nat → PR → (Nat × Nat) ⊕ PS
  | _, Sum.inl e => Sum.inl e
  | _, Sum.inr (x, false) => Sum.inr x
  | 0, Sum.inr (x, true) => Sum.inr x
  | f + 1, Sum.inr (x, true) => runP T ln p q r Ms f (stP T ln p q r Ms x)
/-- an error, or a value -/
def endP : (Nat × Nat) ⊕ PS → (Nat × Nat) ⊕ MV
  | Sum.inl e => Sum.inl e
  | Sum.inr x => match x.unf with
    | some k => Sum.inl (3, k)
    | none => match x.S with
      | M :: _ => Sum.inr M
      | [] => Sum.inl (0, 0)
def evP (T : Nat → Nat) (ln p q r : Nat) (Ms : Nat → MV) (bp : Bool) : (Nat × Nat) ⊕ MV := endP (runP T ln p q r Ms (ln + 1) (PR.go (0, true, true, bp, [], [], none)))
