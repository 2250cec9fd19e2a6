theorem likeB_f {M N : MV} : ∀ {k n : Nat}, likeB M N k = false → k ≤ n → likeB M N n = false
  | k, 0, h, hn => by
    have : k = 0 := by omega
    subst this; exact h
  | k, n + 1, h, hn => by
    by_cases e : k = n + 1
    · subst e; exact h
    · show (likeB M N n && decide (M n = N n)) = false
      rw [likeB_f h (by omega : k ≤ n)]; rfl
set_option maxHeartbeats 4000000 in
theorem x6_isLike {l : Launch} {dC : Nat → ClassId} {dI : Nat → Nat → Nat} {dA : Nat → ClassId} {s0 : State} {b0 : Addr} (Z : Z0 l dC dI dA s0 b0) (ma mr na nr : Nat) (M N : MV) : Met l yX6_isLike (ws_ yX6_isLike cX6_isLike 4 (some .boolean)) ({ frames := 1, cells := 0, slots := 0, locals := 60 } : Room) (gP [.ref ma, .ref na] s0 (fun _ => False) (fun H => va_P (dC, dI) vwCl [(ma, .inr (0, [.ref mr, .long (M 0)])), (mr, .inl (dA 1, 32, .inr (.inl (fun j => M (j + 1))))), (na, .inr (0, [.ref nr, .long (N 0)])), (nr, .inl (dA 1, 32, .inr (.inl (fun j => N (j + 1)))))] H)) (vp_Si (fun r => r = bI (likeB M N 33))) 0 0 (fun _ => False) := by
  refine Met.ofW (cc := cX6_isLike) (maxL := 4) (ret := (some .boolean)) (by decide) rfl ?_
  intro p e s m args below meth c s₁ B hml hv
  obtain ⟨hav, hG, hP⟩ := hv
  have hx := B.exec
  have hb := B.bytes
  have hr := B.returns
  have hts := atoms_spec (ws := (ws_ yX6_isLike cX6_isLike 4 (some .boolean))) B.pre
  have hts : ∀ w ∈ lw_all, w.before _ s = true := fun w h => hts w (List.mem_cons_of_mem _ h)
  have hown : s.vm.findClass RX6 = some m.cls := findClass_of_methodNamed B.named
  have hlocks := B.notSynchronized
  have hK := hG.K Z
  have hS : va_S (fun _ => False) s.heap s.heap [] := va_S.rf
  have hl := lv_entry ([.ref ma, .ref na]) (n := 4) (Nat.le_of_ble_eq_true rfl)
  rw [show entryFrame m args 4 = entryFrame m ([.ref ma, .ref na] : List Value).toArray 4 from by rw [hav], lg_entry_eq]
  generalize (lg_sl ([.ref ma, .ref na]) ++ List.replicate (4 - (lg_sl ([.ref ma, .ref na])).length) Slot.unset).toArray = ls at hl ⊢
  have hl : lv_has ls 4 [(0, .ref ma), (1, .ref na)] := hl
  generalize hQe : MQ below _ _ s _ _ _ = Q
  change W p l e ({ frames := 1, cells := 0, slots := 0, locals := 60 } : Room) s m args below meth c s.heap [] 0 0 Q (F0 m 0 ls [])
  refine lv_aload_n hx hb dX6_isLike_0 rfl (lv_at hl 0 rfl) ?_
  refine va_get (D := (dC, dI)) (ci := 0) (v := .long (M 0)) (C := RX6) (T := TX6) (N := 2) hx hb hts in_X6 hown hK hP 0 rfl rfl 1 (by decide) (hts _ q553) (fun _ h9 => h9) rfl dX6_isLike_1 ?_
  refine lv_aload_n hx hb dX6_isLike_4 rfl (lv_at hl 1 rfl) ?_
  refine va_get (D := (dC, dI)) (ci := 0) (v := .long (N 0)) (C := RX6) (T := TX6) (N := 2) hx hb hts in_X6 hown hK hP 2 rfl rfl 1 (by decide) (hts _ q553) (fun _ h9 => h9) rfl dX6_isLike_5 ?_
  refine W.lcmp hx hb dX6_isLike_8 ?_
  refine lv_if_ne (tgt := 16) hx hb dX6_isLike_9 (by decide) (fun c_9 => ?_) (fun c_9 => ?_)
  · have c_9 : ¬ (M 0) = (N 0) := fun h => c_9 ((lg_cmp_eq _ _).mpr h)
    refine lv_iconst (v := nI 0) hx hb dX6_isLike_16 (by decide) ?_
    refine e_i (y := bI (likeB M N (0 + 1))) ((by show _ = bI (true && decide (M 0 = N 0)); rw [decide_eq_false c_9]; rfl)) ?_
    refine lv_istore_n (lv' := [(2, .int (bI (likeB M N (0 + 1)))), (0, .ref ma), (1, .ref na)]) hx hb dX6_isLike_17 rfl hl (by decide) rfl (fun ls hl => ?_)
    refine lv_iconst (v := nI 0) hx hb dX6_isLike_18 (by decide) ?_
    refine lv_istore_n (lv' := [(3, .int (nI 0)), (2, .int (bI (likeB M N (0 + 1)))), (0, .ref ma), (1, .ref na)]) hx hb dX6_isLike_19 rfl hl (by decide) rfl (fun ls hl => ?_)
    have loop_1 : ∀ (n9_1 : Nat) (k : Nat) (ls : Array Slot), 32 - k < n9_1 → (k ≤ 32) → lv_has ls 4 [(0, .ref ma), (1, .ref na), (2, .int (bI (likeB M N (k + 1)))), (3, .int (nI k))] → W p l e ({ frames := 1, cells := 0, slots := 0, locals := 60 } : Room) s m args below meth c s.heap [] 0 0 Q (F0 m 20 ls []) := by
      intro n9_1
      induction n9_1 with
      | zero => intro k ls hm_1; exact absurd hm_1 (Nat.not_lt_zero _)
      | succ n9_1 ih_1 =>
        intro k ls hm_1 hk9 hl
        refine lv_iload_n hx hb dX6_isLike_20 rfl (lv_at hl 3 rfl) ?_
        refine lv_bipush (v := nI 32) hx hb dX6_isLike_21 (by decide) ?_
        refine lv_icmp_ge (tgt := 58) hx hb dX6_isLike_23 (by decide) (fun c_23 => ?_) (fun c_23 => ?_)
        · have c_23 : 32 ≤ k := (nI_leI (a := 32) (b := k) (by omega) (by omega)).mp c_23
          obtain rfl : k = 32 := by omega
          refine lv_iload_n hx hb dX6_isLike_58 rfl (lv_at hl 2 rfl) ?_
          subst hQe
          exact W.zret (v := bI (likeB M N (32 + 1))) hx hb hr (bI_z _) (fun tz ht hW => ⟨_, rfl, rfl, ht⟩) hS.2.2 dX6_isLike_59
        · have c_23 : ¬ 32 ≤ k := fun h => c_23 ((nI_leI (a := 32) (b := k) (by omega) (by omega)).mpr h)
          refine lv_iload_n hx hb dX6_isLike_26 rfl (lv_at hl 2 rfl) ?_
          refine lv_if_eq (tgt := 58) hx hb dX6_isLike_27 (by decide) (fun c_27 => ?_) (fun c_27 => ?_)
          · have hl9 := bI_0 c_27
            refine lv_iload_n hx hb dX6_isLike_58 rfl (lv_at hl 2 rfl) ?_
            subst hQe
            exact W.zret (v := bI (likeB M N (k + 1))) hx hb hr (bI_z _) (fun tz ht hW => ⟨_, rfl, (by rw [hl9, likeB_f hl9 (by omega)]), ht⟩) hS.2.2 dX6_isLike_59
          · have hl9 := bI_1 c_27
            refine lv_aload_n hx hb dX6_isLike_30 rfl (lv_at hl 0 rfl) ?_
            refine va_get (D := (dC, dI)) (ci := 0) (v := .ref mr) (C := RX6) (T := TX6) (N := 2) hx hb hts in_X6 hown hK hP 0 rfl rfl 0 (by decide) (hts _ q549) (fun _ h9 => h9) rfl dX6_isLike_31 ?_
            refine lv_iload_n hx hb dX6_isLike_34 rfl (lv_at hl 3 rfl) ?_
            refine a_lald hx hb hK hP 1 1 rfl rfl (by omega) (by omega) dX6_isLike_35 ?_
            refine lv_aload_n hx hb dX6_isLike_36 rfl (lv_at hl 1 rfl) ?_
            refine va_get (D := (dC, dI)) (ci := 0) (v := .ref nr) (C := RX6) (T := TX6) (N := 2) hx hb hts in_X6 hown hK hP 2 rfl rfl 0 (by decide) (hts _ q549) (fun _ h9 => h9) rfl dX6_isLike_37 ?_
            refine lv_iload_n hx hb dX6_isLike_40 rfl (lv_at hl 3 rfl) ?_
            refine a_lald hx hb hK hP 3 1 rfl rfl (by omega) (by omega) dX6_isLike_41 ?_
            refine W.lcmp hx hb dX6_isLike_42 ?_
            refine lv_if_ne (tgt := 50) hx hb dX6_isLike_43 (by decide) (fun c_43 => ?_) (fun c_43 => ?_)
            · have c_43 : ¬ ((fun j => M (j + 1)) k) = ((fun j => N (j + 1)) k) := fun h => c_43 ((lg_cmp_eq _ _).mpr h)
              refine lv_iconst (v := nI 0) hx hb dX6_isLike_50 (by decide) ?_
              refine e_i (y := bI (likeB M N (k + 1 + 1))) ((by show _ = bI (likeB M N (k + 1) && decide (M (k + 1) = N (k + 1))); rw [hl9, decide_eq_false c_43]; rfl)) ?_
              refine lv_istore_n (lv' := [(2, .int (bI (likeB M N (k + 1 + 1)))), (0, .ref ma), (1, .ref na), (3, .int (nI k))]) hx hb dX6_isLike_51 rfl hl (by decide) rfl (fun ls hl => ?_)
              refine lv_iinc (v := nI (k + 1)) (lv' := [(3, .int (nI (k + 1))), (2, .int (bI (likeB M N (k + 1 + 1)))), (0, .ref ma), (1, .ref na)]) hx hb dX6_isLike_52 hl (k := 3) rfl (by exact nI_add _ 1) (by decide) rfl (fun ls hl => ?_)
              refine lv_goto (tgt := 20) hx hb dX6_isLike_55 (by decide) ?_
              exact ih_1 (k + 1) ls (by omega) (by omega) (lv_sub hl [2, 3, 1, 0] rfl)
            · have c_43 : ((fun j => M (j + 1)) k) = ((fun j => N (j + 1)) k) := (lg_cmp_eq _ _).mp c_43
              refine lv_iconst (v := nI 1) hx hb dX6_isLike_46 (by decide) ?_
              refine lv_goto (tgt := 51) hx hb dX6_isLike_47 (by decide) ?_
              refine e_i (y := bI (likeB M N (k + 1 + 1))) ((by show _ = bI (likeB M N (k + 1) && decide (M (k + 1) = N (k + 1))); rw [hl9, decide_eq_true c_43]; rfl)) ?_
              refine lv_istore_n (lv' := [(2, .int (bI (likeB M N (k + 1 + 1)))), (0, .ref ma), (1, .ref na), (3, .int (nI k))]) hx hb dX6_isLike_51 rfl hl (by decide) rfl (fun ls hl => ?_)
              refine lv_iinc (v := nI (k + 1)) (lv' := [(3, .int (nI (k + 1))), (2, .int (bI (likeB M N (k + 1 + 1)))), (0, .ref ma), (1, .ref na)]) hx hb dX6_isLike_52 hl (k := 3) rfl (by exact nI_add _ 1) (by decide) rfl (fun ls hl => ?_)
              refine lv_goto (tgt := 20) hx hb dX6_isLike_55 (by decide) ?_
              exact ih_1 (k + 1) ls (by omega) (by omega) (lv_sub hl [2, 3, 1, 0] rfl)
    exact loop_1 _ 0 ls (Nat.lt_succ_self _) (by omega) (lv_sub hl [2, 3, 1, 0] rfl)
  · have c_9 : (M 0) = (N 0) := (lg_cmp_eq _ _).mp c_9
    refine lv_iconst (v := nI 1) hx hb dX6_isLike_12 (by decide) ?_
    refine lv_goto (tgt := 17) hx hb dX6_isLike_13 (by decide) ?_
    refine e_i (y := bI (likeB M N (0 + 1))) ((by show _ = bI (true && decide (M 0 = N 0)); rw [decide_eq_true c_9]; rfl)) ?_
    refine lv_istore_n (lv' := [(2, .int (bI (likeB M N (0 + 1)))), (0, .ref ma), (1, .ref na)]) hx hb dX6_isLike_17 rfl hl (by decide) rfl (fun ls hl => ?_)
    refine lv_iconst (v := nI 0) hx hb dX6_isLike_18 (by decide) ?_
    refine lv_istore_n (lv' := [(3, .int (nI 0)), (2, .int (bI (likeB M N (0 + 1)))), (0, .ref ma), (1, .ref na)]) hx hb dX6_isLike_19 rfl hl (by decide) rfl (fun ls hl => ?_)
    have loop_2 : ∀ (n9_2 : Nat) (k : Nat) (ls : Array Slot), 32 - k < n9_2 → (k ≤ 32) → lv_has ls 4 [(0, .ref ma), (1, .ref na), (2, .int (bI (likeB M N (k + 1)))), (3, .int (nI k))] → W p l e ({ frames := 1, cells := 0, slots := 0, locals := 60 } : Room) s m args below meth c s.heap [] 0 0 Q (F0 m 20 ls []) := by
      intro n9_2
      induction n9_2 with
      | zero => intro k ls hm_2; exact absurd hm_2 (Nat.not_lt_zero _)
      | succ n9_2 ih_2 =>
        intro k ls hm_2 hk9 hl
        refine lv_iload_n hx hb dX6_isLike_20 rfl (lv_at hl 3 rfl) ?_
        refine lv_bipush (v := nI 32) hx hb dX6_isLike_21 (by decide) ?_
        refine lv_icmp_ge (tgt := 58) hx hb dX6_isLike_23 (by decide) (fun c_23 => ?_) (fun c_23 => ?_)
        · have c_23 : 32 ≤ k := (nI_leI (a := 32) (b := k) (by omega) (by omega)).mp c_23
          obtain rfl : k = 32 := by omega
          refine lv_iload_n hx hb dX6_isLike_58 rfl (lv_at hl 2 rfl) ?_
          subst hQe
          exact W.zret (v := bI (likeB M N (32 + 1))) hx hb hr (bI_z _) (fun tz ht hW => ⟨_, rfl, rfl, ht⟩) hS.2.2 dX6_isLike_59
        · have c_23 : ¬ 32 ≤ k := fun h => c_23 ((nI_leI (a := 32) (b := k) (by omega) (by omega)).mpr h)
          refine lv_iload_n hx hb dX6_isLike_26 rfl (lv_at hl 2 rfl) ?_
          refine lv_if_eq (tgt := 58) hx hb dX6_isLike_27 (by decide) (fun c_27 => ?_) (fun c_27 => ?_)
          · have hl9 := bI_0 c_27
            refine lv_iload_n hx hb dX6_isLike_58 rfl (lv_at hl 2 rfl) ?_
            subst hQe
            exact W.zret (v := bI (likeB M N (k + 1))) hx hb hr (bI_z _) (fun tz ht hW => ⟨_, rfl, (by rw [hl9, likeB_f hl9 (by omega)]), ht⟩) hS.2.2 dX6_isLike_59
          · have hl9 := bI_1 c_27
            refine lv_aload_n hx hb dX6_isLike_30 rfl (lv_at hl 0 rfl) ?_
            refine va_get (D := (dC, dI)) (ci := 0) (v := .ref mr) (C := RX6) (T := TX6) (N := 2) hx hb hts in_X6 hown hK hP 0 rfl rfl 0 (by decide) (hts _ q549) (fun _ h9 => h9) rfl dX6_isLike_31 ?_
            refine lv_iload_n hx hb dX6_isLike_34 rfl (lv_at hl 3 rfl) ?_
            refine a_lald hx hb hK hP 1 1 rfl rfl (by omega) (by omega) dX6_isLike_35 ?_
            refine lv_aload_n hx hb dX6_isLike_36 rfl (lv_at hl 1 rfl) ?_
            refine va_get (D := (dC, dI)) (ci := 0) (v := .ref nr) (C := RX6) (T := TX6) (N := 2) hx hb hts in_X6 hown hK hP 2 rfl rfl 0 (by decide) (hts _ q549) (fun _ h9 => h9) rfl dX6_isLike_37 ?_
            refine lv_iload_n hx hb dX6_isLike_40 rfl (lv_at hl 3 rfl) ?_
            refine a_lald hx hb hK hP 3 1 rfl rfl (by omega) (by omega) dX6_isLike_41 ?_
            refine W.lcmp hx hb dX6_isLike_42 ?_
            refine lv_if_ne (tgt := 50) hx hb dX6_isLike_43 (by decide) (fun c_43 => ?_) (fun c_43 => ?_)
            · have c_43 : ¬ ((fun j => M (j + 1)) k) = ((fun j => N (j + 1)) k) := fun h => c_43 ((lg_cmp_eq _ _).mpr h)
              refine lv_iconst (v := nI 0) hx hb dX6_isLike_50 (by decide) ?_
              refine e_i (y := bI (likeB M N (k + 1 + 1))) ((by show _ = bI (likeB M N (k + 1) && decide (M (k + 1) = N (k + 1))); rw [hl9, decide_eq_false c_43]; rfl)) ?_
              refine lv_istore_n (lv' := [(2, .int (bI (likeB M N (k + 1 + 1)))), (0, .ref ma), (1, .ref na), (3, .int (nI k))]) hx hb dX6_isLike_51 rfl hl (by decide) rfl (fun ls hl => ?_)
              refine lv_iinc (v := nI (k + 1)) (lv' := [(3, .int (nI (k + 1))), (2, .int (bI (likeB M N (k + 1 + 1)))), (0, .ref ma), (1, .ref na)]) hx hb dX6_isLike_52 hl (k := 3) rfl (by exact nI_add _ 1) (by decide) rfl (fun ls hl => ?_)
              refine lv_goto (tgt := 20) hx hb dX6_isLike_55 (by decide) ?_
              exact ih_2 (k + 1) ls (by omega) (by omega) (lv_sub hl [2, 3, 1, 0] rfl)
            · have c_43 : ((fun j => M (j + 1)) k) = ((fun j => N (j + 1)) k) := (lg_cmp_eq _ _).mp c_43
              refine lv_iconst (v := nI 1) hx hb dX6_isLike_46 (by decide) ?_
              refine lv_goto (tgt := 51) hx hb dX6_isLike_47 (by decide) ?_
              refine e_i (y := bI (likeB M N (k + 1 + 1))) ((by show _ = bI (likeB M N (k + 1) && decide (M (k + 1) = N (k + 1))); rw [hl9, decide_eq_true c_43]; rfl)) ?_
              refine lv_istore_n (lv' := [(2, .int (bI (likeB M N (k + 1 + 1)))), (0, .ref ma), (1, .ref na), (3, .int (nI k))]) hx hb dX6_isLike_51 rfl hl (by decide) rfl (fun ls hl => ?_)
              refine lv_iinc (v := nI (k + 1)) (lv' := [(3, .int (nI (k + 1))), (2, .int (bI (likeB M N (k + 1 + 1)))), (0, .ref ma), (1, .ref na)]) hx hb dX6_isLike_52 hl (k := 3) rfl (by exact nI_add _ 1) (by decide) rfl (fun ls hl => ?_)
              refine lv_goto (tgt := 20) hx hb dX6_isLike_55 (by decide) ?_
              exact ih_2 (k + 1) ls (by omega) (by omega) (lv_sub hl [2, 3, 1, 0] rfl)
    exact loop_2 _ 0 ls (Nat.lt_succ_self _) (by omega) (lv_sub hl [2, 3, 1, 0] rfl)
set_option maxHeartbeats 4000000 in
theorem x9_init {l : Launch} {dC : Nat → ClassId} {dI : Nat → Nat → Nat} {dA : Nat → ClassId} {s0 : State} {b0 : Addr} (Z : Z0 l dC dI dA s0 b0) (A : Nat → Prop) (sz : Nat) (hA : ∀ q : Nat, sz ≤ q → A q) (ta : Nat) (k9 : Int32) (a b : Int64) (ha : a ≠ Int64.minValue) (hbb : b ≠ Int64.minValue) (hg9 : ¬ gcdL a b = 0) : Met l yX9_init (ws_ yX9_init cX9_init 8 none) ({ frames := 4, cells := 0, slots := 0, locals := 240 } : Room) (gP [.ref ta, .int k9, .long a, .long b] s0 A (fun H => H.size = sz ∧ va_P (dC, dI) vwCl [(ta, .inr (5, [.int 0, .long 0, .long 0]))] H ∧ va_D A [(ta, .inr (5, [.int 0, .long 0, .long 0]))])) (va_Qv (S := Unit) (fun _ => True) (B1 (dC, dI) A (fun _ => [(ta, .inr (5, [.int k9, .long (a / gcdL a b), .long (b / gcdL a b)]))]) (fun _ _ => True)) A) 0 0 A := by
  refine Met.ofW (cc := cX9_init) (maxL := 8) (ret := none) (by decide) rfl ?_
  intro p e s m args below meth c s₁ B hml hv
  obtain ⟨hav, hG, hsz, hP, hD⟩ := hv
  have hx := B.exec
  have hb := B.bytes
  have hr := B.returns
  have hts := atoms_spec (ws := (ws_ yX9_init cX9_init 8 none)) B.pre
  have hts : ∀ w ∈ lw_all, w.before _ s = true := fun w h => hts w (List.mem_cons_of_mem _ h)
  have hown : s.vm.findClass RX9 = some m.cls := findClass_of_methodNamed B.named
  have hlocks := B.notSynchronized
  have hK := hG.K Z
  have hin : meth.name = "<init>" := (name_of_methodNamed B.named B.method).1
  subst hsz
  have hS : va_S A s.heap s.heap [] := va_S.rf
  have hl := lv_entry ([.ref ta, .int k9, .long a, .long b]) (n := 8) (Nat.le_of_ble_eq_true rfl)
  rw [show entryFrame m args 8 = entryFrame m ([.ref ta, .int k9, .long a, .long b] : List Value).toArray 8 from by rw [hav], lg_entry_eq]
  generalize (lg_sl ([.ref ta, .int k9, .long a, .long b]) ++ List.replicate (8 - (lg_sl ([.ref ta, .int k9, .long a, .long b])).length) Slot.unset).toArray = ls at hl ⊢
  have hl : lv_has ls 8 [(0, .ref ta), (1, .int k9), (2, .long a), (4, .long b)] := hl
  generalize hQe : MQ below _ _ s _ _ _ = Q
  change W p l e ({ frames := 4, cells := 0, slots := 0, locals := 240 } : Room) s m args below meth c s.heap [] 0 0 Q (F0 m 0 ls [])
  refine lv_aload_n hx hb dX9_init_0 rfl (lv_at hl 0 rfl) ?_
  refine W.objInit hx hb hown (hts _ q584) (hts _ q151) (hts _ q152) rfl (by rw [hml]; exact hl.1) rfl dX9_init_1 (Nat.le_of_ble_eq_true rfl) (Nat.le_of_ble_eq_true rfl) ?_
  refine lv_lload_n hx hb dX9_init_4 rfl (lv_at hl 2 rfl) ?_
  refine lv_lload hx hb dX9_init_5 (lv_at hl 3 rfl) ?_
  refine s_l (va_runSN (As := [.long a, .long b]) (rest := []) ⟨hx, hb, hml, hown, hts⟩ (x1_common Z a b ha hbb) ⟨va_cnB 2 hts (lw_meth q515) rfl rfl rfl (va_Nw.warmM hG.1 (va_Nw.of rfl (Z.2.1 _ q585))) (hts _ q96) (by decide +kernel) ⟨Nat.le_of_ble_eq_true rfl, Nat.le_of_ble_eq_true rfl⟩, hts _ q514, trivial⟩ (gP_S hG hS (fun q _ h => h.elim) trivial) rfl rfl hl.1 rfl (lv_room (Nat.le_of_ble_eq_true rfl)) dX9_init_7 ⟨by first | decide | omega, by first | decide | omega⟩) ?_
  refine lv_lstore (lv' := [(6, .long (gcdL a b)), (0, .ref ta), (1, .int k9), (2, .long a), (4, .long b)]) hx hb dX9_init_10 hl (by decide) rfl (fun ls hl => ?_)
  refine lv_aload_n hx hb dX9_init_12 rfl (lv_at hl 1 rfl) ?_
  refine lv_iload_n hx hb dX9_init_13 rfl (lv_at hl 2 rfl) ?_
  refine va_putF (D := (dC, dI)) (ci := 5) (v := .int k9) (ty := .int) (C := RX9) (T := TX9) (N := 3) hx hb hts in_X9 tyX9 tyX9_ok nmX9 hown hK hP hD hS 0 rfl rfl 0 (by decide) (hts _ q586) (fun _ h9 => h9) rfl hin rfl (by decide +kernel) rfl rfl (Nat.le_of_ble_eq_true rfl) dX9_init_14 (fun H locs hP hD hS => ?_)
  have hP : va_P (dC, dI) vwCl [(ta, .inr (5, [.int k9, .long 0, .long 0]))] H := hP
  have hD : va_D A [(ta, .inr (5, [.int k9, .long 0, .long 0]))] := hD
  refine lv_aload_n hx hb dX9_init_17 rfl (lv_at hl 1 rfl) ?_
  refine lv_lload_n hx hb dX9_init_18 rfl (lv_at hl 3 rfl) ?_
  refine lv_lload hx hb dX9_init_19 (lv_at hl 0 rfl) ?_
  refine lv_ldiv hx hb dX9_init_21 hg9 ?_
  refine va_putF (D := (dC, dI)) (ci := 5) (v := .long (a / (gcdL a b))) (ty := .long) (C := RX9) (T := TX9) (N := 3) hx hb hts in_X9 tyX9 tyX9_ok nmX9 hown hK hP hD hS 0 rfl rfl 1 (by decide) (hts _ q588) (fun _ h9 => h9) rfl hin rfl (by decide +kernel) rfl rfl (Nat.le_of_ble_eq_true rfl) dX9_init_22 (fun H locs hP hD hS => ?_)
  have hP : va_P (dC, dI) vwCl [(ta, .inr (5, [.int k9, .long (a / (gcdL a b)), .long 0]))] H := hP
  have hD : va_D A [(ta, .inr (5, [.int k9, .long (a / (gcdL a b)), .long 0]))] := hD
  refine lv_aload_n hx hb dX9_init_25 rfl (lv_at hl 1 rfl) ?_
  refine lv_lload hx hb dX9_init_26 (lv_at hl 4 rfl) ?_
  refine lv_lload hx hb dX9_init_28 (lv_at hl 0 rfl) ?_
  refine lv_ldiv hx hb dX9_init_30 hg9 ?_
  refine va_putF (D := (dC, dI)) (ci := 5) (v := .long (b / (gcdL a b))) (ty := .long) (C := RX9) (T := TX9) (N := 3) hx hb hts in_X9 tyX9 tyX9_ok nmX9 hown hK hP hD hS 0 rfl rfl 2 (by decide) (hts _ q590) (fun _ h9 => h9) rfl hin rfl (by decide +kernel) rfl rfl (Nat.le_of_ble_eq_true rfl) dX9_init_31 (fun H locs hP hD hS => ?_)
  have hP : va_P (dC, dI) vwCl [(ta, .inr (5, [.int k9, .long (a / (gcdL a b)), .long (b / (gcdL a b))]))] H := hP
  have hD : va_D A [(ta, .inr (5, [.int k9, .long (a / (gcdL a b)), .long (b / (gcdL a b))]))] := hD
  subst hQe
  exact W.vret hx hb hr (fun tz ht hW => ⟨⟨(), rfl, trivial, B1_at ht (hP.sub [0] rfl) (hD.sub [0] (by decide) rfl) trivial⟩, hS.F ht⟩) hS.2.2 dX9_init_34
set_option maxHeartbeats 4000000 in
theorem x9_isNegative {l : Launch} {dC : Nat → ClassId} {dI : Nat → Nat → Nat} {dA : Nat → ClassId} {s0 : State} {b0 : Addr} (Z : Z0 l dC dI dA s0 b0) (ta : Nat) (k9 : Int32) (a b : Int64) : Met l yX9_isNegative (ws_ yX9_isNegative cX9_isNegative 1 (some .boolean)) ({ frames := 1, cells := 0, slots := 0, locals := 60 } : Room) (gP [.ref ta] s0 (fun _ => False) (fun H => va_P (dC, dI) vwCl [(ta, .inr (5, [.int k9, .long a, .long b]))] H)) (vp_Si (fun r => r = bI (decide (a < 0)))) 0 0 (fun _ => False) := by
  refine Met.ofW (cc := cX9_isNegative) (maxL := 1) (ret := (some .boolean)) (by decide) rfl ?_
  intro p e s m args below meth c s₁ B hml hv
  obtain ⟨hav, hG, hP⟩ := hv
  have hx := B.exec
  have hb := B.bytes
  have hr := B.returns
  have hts := atoms_spec (ws := (ws_ yX9_isNegative cX9_isNegative 1 (some .boolean))) B.pre
  have hts : ∀ w ∈ lw_all, w.before _ s = true := fun w h => hts w (List.mem_cons_of_mem _ h)
  have hown : s.vm.findClass RX9 = some m.cls := findClass_of_methodNamed B.named
  have hlocks := B.notSynchronized
  have hK := hG.K Z
  have hS : va_S (fun _ => False) s.heap s.heap [] := va_S.rf
  have hl := lv_entry ([.ref ta]) (n := 1) (Nat.le_of_ble_eq_true rfl)
  rw [show entryFrame m args 1 = entryFrame m ([.ref ta] : List Value).toArray 1 from by rw [hav], lg_entry_eq]
  generalize (lg_sl ([.ref ta]) ++ List.replicate (1 - (lg_sl ([.ref ta])).length) Slot.unset).toArray = ls at hl ⊢
  have hl : lv_has ls 1 [(0, .ref ta)] := hl
  generalize hQe : MQ below _ _ s _ _ _ = Q
  change W p l e ({ frames := 1, cells := 0, slots := 0, locals := 60 } : Room) s m args below meth c s.heap [] 0 0 Q (F0 m 0 ls [])
  refine lv_aload_n hx hb dX9_isNegative_0 rfl (lv_at hl 0 rfl) ?_
  refine va_get (D := (dC, dI)) (ci := 5) (v := .long a) (C := RX9) (T := TX9) (N := 3) hx hb hts in_X9 hown hK hP 0 rfl rfl 1 (by decide) (hts _ q588) (fun _ h9 => h9) rfl dX9_isNegative_1 ?_
  refine lv_lconst (v := 0) hx hb dX9_isNegative_4 rfl ?_
  refine W.lcmp hx hb dX9_isNegative_5 ?_
  refine lv_if_ge (tgt := 13) hx hb dX9_isNegative_6 (by decide) (fun c_6 => ?_) (fun c_6 => ?_)
  · have c_6 : 0 ≤ a := (lg_cmp_ge _ _).mp c_6
    refine lv_iconst (v := nI 0) hx hb dX9_isNegative_13 (by decide) ?_
    subst hQe
    exact W.zret (v := nI 0) hx hb hr rfl (fun tz ht hW => ⟨_, rfl, (by rw [decide_eq_false (Int64.not_lt.mpr c_6)]; rfl), ht⟩) hS.2.2 dX9_isNegative_14
  · have c_6 : ¬ 0 ≤ a := fun h => c_6 ((lg_cmp_ge _ _).mpr h)
    refine lv_iconst (v := nI 1) hx hb dX9_isNegative_9 (by decide) ?_
    refine lv_goto (tgt := 14) hx hb dX9_isNegative_10 (by decide) ?_
    subst hQe
    exact W.zret (v := nI 1) hx hb hr rfl (fun tz ht hW => ⟨_, rfl, (by rw [decide_eq_true (Int64.not_le.mp c_6)]; rfl), ht⟩) hS.2.2 dX9_isNegative_14
set_option maxHeartbeats 4000000 in
theorem x9_isOne {l : Launch} {dC : Nat → ClassId} {dI : Nat → Nat → Nat} {dA : Nat → ClassId} {s0 : State} {b0 : Addr} (Z : Z0 l dC dI dA s0 b0) (ta : Nat) (k9 : Int32) (a b : Int64) : Met l yX9_isOne (ws_ yX9_isOne cX9_isOne 1 (some .boolean)) ({ frames := 2, cells := 0, slots := 0, locals := 120 } : Room) (gP [.ref ta] s0 (fun _ => False) (fun H => va_P (dC, dI) vwCl [(ta, .inr (5, [.int k9, .long a, .long b]))] H)) (vp_Si (fun r => r = bI (decide (absL a = 1) && decide (b = 1)))) 0 0 (fun _ => False) := by
  refine Met.ofW (cc := cX9_isOne) (maxL := 1) (ret := (some .boolean)) (by decide) rfl ?_
  intro p e s m args below meth c s₁ B hml hv
  obtain ⟨hav, hG, hP⟩ := hv
  have hx := B.exec
  have hb := B.bytes
  have hr := B.returns
  have hts := atoms_spec (ws := (ws_ yX9_isOne cX9_isOne 1 (some .boolean))) B.pre
  have hts : ∀ w ∈ lw_all, w.before _ s = true := fun w h => hts w (List.mem_cons_of_mem _ h)
  have hown : s.vm.findClass RX9 = some m.cls := findClass_of_methodNamed B.named
  have hlocks := B.notSynchronized
  have hK := hG.K Z
  have hS : va_S (fun _ => False) s.heap s.heap [] := va_S.rf
  have hl := lv_entry ([.ref ta]) (n := 1) (Nat.le_of_ble_eq_true rfl)
  rw [show entryFrame m args 1 = entryFrame m ([.ref ta] : List Value).toArray 1 from by rw [hav], lg_entry_eq]
  generalize (lg_sl ([.ref ta]) ++ List.replicate (1 - (lg_sl ([.ref ta])).length) Slot.unset).toArray = ls at hl ⊢
  have hl : lv_has ls 1 [(0, .ref ta)] := hl
  generalize hQe : MQ below _ _ s _ _ _ = Q
  change W p l e ({ frames := 2, cells := 0, slots := 0, locals := 120 } : Room) s m args below meth c s.heap [] 0 0 Q (F0 m 0 ls [])
  refine lv_aload_n hx hb dX9_isOne_0 rfl (lv_at hl 0 rfl) ?_
  refine va_get (D := (dC, dI)) (ci := 5) (v := .long a) (C := RX9) (T := TX9) (N := 3) hx hb hts in_X9 hown hK hP 0 rfl rfl 1 (by decide) (hts _ q588) (fun _ h9 => h9) rfl dX9_isOne_1 ?_
  refine va_mabs_long hx hb (hml.trans hl.1.symm) hown (hts _ q1935) (hts _ q517) (hts _ q115) (hts _ q518) (by decide) (Nat.le_of_ble_eq_true rfl) (by first | decide | omega) (by first | decide | omega) dX9_isOne_4 ?_
  refine e_l (y := absL a) (abs_if _) ?_
  refine lv_lconst (v := 1) hx hb dX9_isOne_7 rfl ?_
  refine W.lcmp hx hb dX9_isOne_8 ?_
  refine lv_if_ne (tgt := 25) hx hb dX9_isOne_9 (by decide) (fun c_9 => ?_) (fun c_9 => ?_)
  · have c_9 : ¬ (absL a) = 1 := fun h => c_9 ((lg_cmp_eq _ _).mpr h)
    refine lv_iconst (v := nI 0) hx hb dX9_isOne_25 (by decide) ?_
    subst hQe
    exact W.zret (v := nI 0) hx hb hr rfl (fun tz ht hW => ⟨_, rfl, (by rw [decide_eq_false c_9]; rfl), ht⟩) hS.2.2 dX9_isOne_26
  · have c_9 : (absL a) = 1 := (lg_cmp_eq _ _).mp c_9
    refine lv_aload_n hx hb dX9_isOne_12 rfl (lv_at hl 0 rfl) ?_
    refine va_get (D := (dC, dI)) (ci := 5) (v := .long b) (C := RX9) (T := TX9) (N := 3) hx hb hts in_X9 hown hK hP 0 rfl rfl 2 (by decide) (hts _ q590) (fun _ h9 => h9) rfl dX9_isOne_13 ?_
    refine lv_lconst (v := 1) hx hb dX9_isOne_16 rfl ?_
    refine W.lcmp hx hb dX9_isOne_17 ?_
    refine lv_if_ne (tgt := 25) hx hb dX9_isOne_18 (by decide) (fun c_18 => ?_) (fun c_18 => ?_)
    · have c_18 : ¬ b = 1 := fun h => c_18 ((lg_cmp_eq _ _).mpr h)
      refine lv_iconst (v := nI 0) hx hb dX9_isOne_25 (by decide) ?_
      subst hQe
      exact W.zret (v := nI 0) hx hb hr rfl (fun tz ht hW => ⟨_, rfl, (by rw [decide_eq_false c_18, Bool.and_false]; rfl), ht⟩) hS.2.2 dX9_isOne_26
    · have c_18 : b = 1 := (lg_cmp_eq _ _).mp c_18
      refine lv_iconst (v := nI 1) hx hb dX9_isOne_21 (by decide) ?_
      refine lv_goto (tgt := 26) hx hb dX9_isOne_22 (by decide) ?_
      subst hQe
      exact W.zret (v := nI 1) hx hb hr rfl (fun tz ht hW => ⟨_, rfl, (by rw [decide_eq_true c_9, decide_eq_true c_18]; rfl), ht⟩) hS.2.2 dX9_isOne_26
