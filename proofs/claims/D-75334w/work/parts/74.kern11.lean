/-! calls of methods that a superclass declares; the JDK's statics; room of a builder -/
theorem cb_of {R : Room} {s : State} {args : Array Value} {own : String} {index maxL mc ms : Nat} {y : MethodName} {bytes : ByteArray} {ret : Option FieldType} {Ts ws ws' : List Cond} {rm : Room} (n : Nat) (ht : ∀ w ∈ Ts, w.before args s = true) (hG : GoodIn Ts ws) (hw : ws = Cond.code y bytes maxL ret :: ws') (hrc : rm.cells = mc) (hrs : rm.slots = ms) (hl : (Cond.methodLink own index y).before args s = true) (hini : (Cond.initialized y.cls).before args s = true)
    (hd : y.cls ≠ "java/lang/invoke/MethodHandle" ∧ y.cls ≠ "java/lang/invoke/VarHandle" ∧ (parseMethodDescriptor y.desc).map (fun d => d.parameters.length) = some n) (hR : rm.frames + 1 ≤ R.frames ∧ 8 + (maxL + 11) + rm.locals ≤ R.locals) : CallB R s args own index y bytes maxL ret ws rm mc ms n := by
  have hc : Cond.code y bytes maxL ret ∈ ws := by rw [hw]; exact List.mem_cons_self
  refine ⟨hrc, hrs, hR.1, hR.2, pay_in ht hG, hc, ht _ (hG _ hc).1, hini, ⟨hd.1, hd.2.1⟩, fun sig h => ?_, hl⟩
  have h2 := hd.2.2
  rw [h] at h2
  exact (Option.some.inj h2).symm
/-- a private method is its own choice, whatever the object's class -/
theorem sel_priv {C : String} {y z : MethodName} {s : State} {args : Array Value} (hy : y.cls ≠ "java/lang/invoke/MethodHandle" ∧ y.cls ≠ "java/lang/invoke/VarHandle") (hzy : z.cls = y.cls) (hz : (Cond.selects C z z).before args s = true) (hinz : (Cond.instanceMethod z).before args s = true) (hpriv : (Cond.privateMethod y).before args s = true) (hinst : (Cond.instanceMethod y).before args s = true) : (Cond.selects C y y).before args s = true := by
  obtain ⟨mk, methM, hnamed, hmethM, -, -⟩ := Cond.instanceMethod_spec hinst
  obtain ⟨c2, r2, m2, hc, -, q3, -, kP, hkP, hkPi⟩ := Cond.selects_spec hz
  have hfound : s.methodFound? y.cls y.name y.desc = some mk := State.methodFound?_of_named hnamed hy
  have hcls : m2.cls = mk.cls := by
    have a := findClass_of_methodNamed q3
    rw [hzy] at a
    exact Option.some.inj (a.symm.trans (findClass_of_methodNamed hnamed))
  have hsel : ∀ c, selectMethod {} s.vm c mk = .method mk := fun c => selectMethod_private hmethM (Cond.privateMethod_at hpriv mk methM hnamed hmethM)
  rw [hcls] at hkP
  simp only [Cond.before, Cond.holds, Cond.value, hc, hfound, hnamed, hsel, hkP]
  simp; exact hkPi
/-- the room of a builder that had m and comes to hold N -/
def cpU : Nat → Nat → Nat → Nat
  | 0, m, _ => m
  | f + 1, m, N => if N ≤ m then m else cpU f (2 * m + 2) N
def cpN (m N : Nat) : Nat := cpU N m N
theorem cpU_irr : ∀ (f f' m N : Nat), N ≤ f + m → N ≤ f' + m → cpU f m N = cpU f' m N := by
  intro f
  induction f with
  | zero =>
    intro f' m N h1 h2
    cases f' with
    | zero => rfl
    | succ f' => exact (if_pos (by omega)).symm
  | succ f ih =>
    intro f' m N h1 h2
    by_cases c : N ≤ m
    · have e1 : cpU (f + 1) m N = m := if_pos c
      rw [e1]
      cases f' with
      | zero => rfl
      | succ f' => exact (if_pos c).symm
    · cases f' with
      | zero => omega
      | succ f' =>
        have e1 : cpU (f + 1) m N = cpU f (2 * m + 2) N := if_neg c
        have e2 : cpU (f' + 1) m N = cpU f' (2 * m + 2) N := if_neg c
        rw [e1, e2]
        exact ih f' _ N (by omega) (by omega)
theorem cp_le {m N : Nat} (h : N ≤ m) : cpN m N = m := by
  unfold cpN
  cases N with
  | zero => rfl
  | succ N => exact if_pos h
theorem cp_gt {m N : Nat} (h : ¬ N ≤ m) : cpN m N = cpN (2 * m + 2) N := by
  unfold cpN
  obtain ⟨k, rfl⟩ : ∃ k, N = k + 1 := ⟨N - 1, by omega⟩
  have e : cpU (k + 1) m (k + 1) = cpU k (2 * m + 2) (k + 1) := if_neg h
  rw [e]
  exact cpU_irr _ _ _ _ (by omega) (by omega)
theorem cp_all (N : Nat) : ∀ (d m : Nat), N ≤ m + d → N ≤ cpN m N ∧ m ≤ cpN m N ∧ (cpN m N ≤ m ∨ cpN m N ≤ 2 * N) := by
  intro d
  induction d with
  | zero => intro m h; rw [cp_le (by omega)]; omega
  | succ d ih =>
    intro m h
    by_cases c : N ≤ m
    · rw [cp_le c]; omega
    · rw [cp_gt c]
      obtain ⟨h1, h2, h3⟩ := ih (2 * m + 2) (by omega)
      exact ⟨h1, by omega, by omega⟩
theorem cp_ge {m N : Nat} : N ≤ cpN m N := (cp_all N N m (by omega)).1
theorem cp_gem {m N : Nat} : m ≤ cpN m N := (cp_all N N m (by omega)).2.1
theorem cp_bd {m N : Nat} : cpN m N ≤ m ∨ cpN m N ≤ 2 * N := (cp_all N N m (by omega)).2.2
theorem cp_tr {a b : Nat} (h : a ≤ b) : ∀ (d m : Nat), a ≤ m + d → cpN (cpN m a) b = cpN m b := by
  intro d
  induction d with
  | zero => intro m c; rw [cp_le (m := m) (N := a) (by omega)]
  | succ d ih =>
    intro m c
    by_cases e : a ≤ m
    · rw [cp_le e]
    · rw [cp_gt e, cp_gt (m := m) (N := b) (by omega)]
      exact ih _ (by omega)
theorem cp_two {a b m : Nat} (h : a ≤ b) : cpN (cpN m a) b = cpN m b := cp_tr h a m (by omega)
theorem cp_one {m q : Nat} (h : ¬ q ≤ m) (h2 : q ≤ 2 * m + 2) : cpN m q = 2 * m + 2 := by rw [cp_gt h, cp_le h2]
theorem sub_le0 {q m : Nat} (hq : q < 2 ^ 30) (hm : m < 2 ^ 30) : nI q - nI m ≤ 0 ↔ q ≤ m := by
  have e1 : (nI q - nI m).toInt = (q : Int) - m := pk_sub_toInt (by omega) (by omega)
  rw [Int32.le_iff_toInt_le, e1, Int32.toInt_zero]
  omega
/-- Strings of the start -/
abbrev strCl : List vw_C := [(RJ2, TJ2, 4)]
abbrev strO (st hv : Nat) (h z : Int32) : va_W := [(st, .inr (0, [.ref hv, .int 0, .int h, .int z]))]
def STR (D dS : va_G) (dA : Nat → ClassId) (st hv n : Nat) (f : Nat → Int32) (s0 : State) : Prop := (∃ h z, va_P dS strCl (strO st hv h z) s0.heap) ∧ va_P D vwCl [(hv, .inl (dA 2, n, .inl f))] s0.heap
/-- the JDK's statics at the start -/
def S2 (D dS : va_G) (dA : Nat → ClassId) (σ : Nat → Nat) (s0 : State) : Prop :=
  va_Z "java/lang/String" "COMPACT_STRINGS" "Z" (.int (nI 1)) (fun _ => False) s0 s0.heap ∧
  va_Z "jdk/internal/util/Preconditions" "SIOOBE_FORMATTER" "Ljava/util/function/BiFunction;" (.ref (σ 60)) (fun _ => False) s0 s0.heap ∧
  (va_Z "java/lang/Integer" "DigitOnes" "[B" (.ref (σ 61)) (fun _ => False) s0 s0.heap ∧ va_P D vwCl [(σ 61, .inl (dA 2, 100, .inl (fun k => nI (48 + k % 10))))] s0.heap) ∧
  (va_Z "java/lang/Integer" "DigitTens" "[B" (.ref (σ 62)) (fun _ => False) s0 s0.heap ∧ va_P D vwCl [(σ 62, .inl (dA 2, 100, .inl (fun k => nI (48 + k / 10))))] s0.heap) ∧
  (va_Z "java/lang/Integer$IntegerCache" "high" "I" (.int (nI 127)) (fun _ => False) s0 s0.heap ∧ va_Z "java/lang/Integer$IntegerCache" "cache" "[Ljava/lang/Integer;" (.ref (σ 63)) (fun _ => False) s0 s0.heap ∧ ∃ cI, (ArrOfT s0 cI (.object "java/lang/Integer") ∧ va_RA s0 cI (.object "java/lang/Integer")) ∧ va_P D vwCl [(σ 63, .inl (cI, 256, .inr (.inr (.inr (.inr (fun i => some (σ (1000 + i))))))))] s0.heap ∧ ∀ i, i < 128 → va_P D vwCl [(σ (1128 + i), .inr (16, [.int (nI i)]))] s0.heap) ∧
  (va_Mi "[Ljava/lang/Object;" (σ 64) s0 ∧ va_Dc s0) ∧
  va_K dS strCl [] s0 ∧
  (vk_R "BladeAlgebra" 456 " - " (σ 65) s0 ∧ STR D dS dA (σ 65) (σ 66) 3 (fun j => nI ([32, 45, 32].getD j 0)) s0) ∧
  (vk_R "BladeAlgebra" 458 " + " (σ 67) s0 ∧ STR D dS dA (σ 67) (σ 68) 3 (fun j => nI ([32, 43, 32].getD j 0)) s0) ∧
  (vk_R "BladeAlgebra$Reader" 48 "er+-*/^.~!()" (σ 69) s0 ∧ STR D dS dA (σ 69) (σ 70) 12 (fun j => nI ([101, 114, 43, 45, 42, 47, 94, 46, 126, 33, 40, 41].getD j 0)) s0)
section KRC
variable {p : Program} {l : Launch} {e : Env} {R : Room} {s : State} {m : MethodId} {args : Array Value} {below : List Frame} {meth : Method} {c : Code} {H : Heap} {locs : List Loc} {cells slots : Nat} {Q : State → Prop}
variable {cc : ByteArray} {pc : Nat} {ls : Array Slot} {rest : List Value} {D : va_G} {cl : List vw_C} {A : Nat → Prop} {tys : List (ClassId × FieldType)} {ws : va_W} {H0 : Heap}
variable {ro : va_W} {a : Nat}
/-- bytes copied from an array that is read alone -/
theorem a_copyi (hexec : p.tables.exec = Jvm.exec) (hb : c.code = cc) (hml : c.maxLocals = ls.size) {own : String} {index : Nat} (hown : s.vm.findClass own = some m.cls) (hlink : (Cond.methodLink own index arraycopyName).before args s = true) (hnat : (Cond.native arraycopyName).before args s = true) (hstat : (Cond.static arraycopyName).before args s = true) (hini : (Cond.initialized "java/lang/System").before args s = true) (hK : va_K D cl tys s) (hR : va_P D cl ro H) (hP : va_P D cl ws H) (hD : va_D A ws) (hS : va_S A H0 H locs) (q0 q1 t0 t1 : Nat) {a0 : Nat} {c0 c1 : ClassId} {n0 n1 : Nat} {f g : Nat → Int32} {ty : FieldType} (ha0 : ro[q0]? = some (a0, .inl (c0, n0, .inl f))) (hna : ¬ A a0) (ha1 : ws[q1]? = some (a, .inl (c1, n1, .inl g))) (ht0 : tys[t0]? = some (c0, ty)) (ht1 : tys[t1]? = some (c1, ty)) (hprim : refKind ty = false) {sp dp n : Int32} (h1 : ¬ sp < 0) (h2 : ¬ dp < 0) (h3 : ¬ n < 0) (h4 : sp.toNatClampNeg + n.toNatClampNeg ≤ n0) (h5 : dp.toNatClampNeg + n.toNatClampNeg ≤ n1) (hfit : ∀ i, i < n.toNatClampNeg → fits ty (.int (f (sp.toNatClampNeg + i))) = true) (hframes : 1 ≤ R.frames) (hlocals : (rest.map fun v => v.category).sum + (nativeFrameWords "java/lang/System" "arraycopy" 5 + 11) ≤ R.locals) (hdg : decode cc pc = .ok (.invokestatic index, 3))
    (kk : ∀ (H1 : Heap) (locs1 : List Loc), va_P D cl (ws.set q1 (a, .inl (c1, n1, .inl (va_cpy f g sp.toNatClampNeg dp.toNatClampNeg n.toNatClampNeg)))) H1 → va_D A (ws.set q1 (a, .inl (c1, n1, .inl (va_cpy f g sp.toNatClampNeg dp.toNatClampNeg n.toNatClampNeg)))) → va_S A H0 H1 locs1 → W p l e R s m args below meth c H1 locs1 cells slots Q (F0 m (pc + 3) ls rest)) : W p l e R s m args below meth c H locs cells slots Q (F0 m pc ls (.int n :: .int dp :: .ref a :: .int sp :: .ref a0 :: rest)) := by
  intro T hT X
  have z0 : ∀ z : Int32, ¬ z < 0 → z.toInt = ((z.toNatClampNeg : Nat) : Int) := fun z hz => by
    have h := Int32.le_iff_toInt_le.mp (Int32.not_lt.mp hz)
    rw [Int32.toInt_zero] at h
    exact (Int.toNat_of_nonneg h).symm
  have hs : H[a0]? = some (vp_cell c0 (n0, .inl f)) := hR q0 _ ha0
  have hd : H[a]? = some (vp_cell c1 (n1, .inl g)) := hP q1 _ ha1
  have hlt := (Array.getElem?_eq_some_iff.mp hd).1
  obtain ⟨-, k0, hk0, cm0, hkk0⟩ := (hK.2 t0 _ ht0).1 n0 (fun j => .int (f j))
  obtain ⟨-, k1, hk1, cm1, hkk1⟩ := (hK.2 t1 _ ht1).1 n1 (fun j => .int (g j))
  have hread : ∀ i : Nat, i < n.toNatClampNeg → (vp_cell c0 (n0, .inl f)).slots.getD (sp.toNatClampNeg + i) .null = .int (f (sp.toNatClampNeg + i)) := fun i hi => by
    show (arrV c0 n0 (fun j => .int (f j))).slots.getD _ _ = _
    rw [Array.getD_eq_getD_getElem?, arrV_read _ _ (by omega)]
    rfl
  obtain ⟨vm', X', step⟩ := X.arraycopy hexec hown hlink hnat hstat hini (src := a0) (dst := a) (cs := vp_cell c0 (n0, .inl f)) (cd := vp_cell c1 (n1, .inl g)) (srcPos := sp) (destPos := dp) (n := n) (by rw [hT]; exact hs) (by rw [hT]; exact hd) (fun _ h => nomatch h) (fun _ h => nomatch h) (fun h => nomatch h) (fun h => nomatch h) hk0 hk1 hkk0 hkk1 (by simp [hprim]) h1 h2 h3 (by rw [z0 sp h1, z0 n h3]; show ¬ _ > ((arrV c0 n0 (fun j => .int (f j))).slots.size : Int); rw [arrV_size]; omega) (by rw [z0 dp h2, z0 n h3]; show ¬ _ > ((arrV c1 n1 (fun j => .int (g j))).slots.size : Int); rw [arrV_size]; omega) (fun vm₁ _ i hi => by rw [hread i hi]; exact ⟨hfit i hi, trivial⟩) (g := F0 m pc ls (.int n :: .int dp :: .ref a :: .int sp :: .ref a0 :: rest)) rfl (by rw [hml]) (rest := rest) rfl (by rw [hb]; exact hdg) hframes (by show 2 * 0 + _ + _ ≤ _; omega)
  rw [show copied (vp_cell c0 (n0, .inl f)) (vp_cell c1 (n1, .inl g)) sp dp n = vp_cell c1 (n1, .inl (va_cpy f g sp.toNatClampNeg dp.toNatClampNeg n.toNatClampNeg)) from va_copied (fun z => .int z) c0 c1 f g h4] at X' step
  have hne : ∀ q : Nat, q ≠ a → (H.setIfInBounds a (vp_cell c1 (n1, .inl (va_cpy f g sp.toNatClampNeg dp.toNatClampNeg n.toNatClampNeg))))[q]? = H[q]? := fun q hq => by rw [Array.getElem?_setIfInBounds, if_neg (Ne.symm hq)]
  have hAa : A a := hD.2 q1 _ ha1
  obtain ⟨t, u1, u2⟩ := kk _ _ (hP.set hD ha1 (show (H.setIfInBounds a _)[a]? = some _ by rw [Array.getElem?_setIfInBounds, if_pos rfl, if_pos hlt]) hne) (hD.set ha1) ⟨by rw [Array.size_setIfInBounds]; exact hS.1, fun q g1 g2 => (hne q (fun e => g2 (e ▸ hAa))).trans (hS.2.1 q g1 g2), fun q hq => by
    rcases List.mem_append.mp hq with h | h
    · exact hS.2.2 q h
    · obtain ⟨z, -, rfl⟩ := List.mem_map.mp h
      exact hAa⟩ _ (show ((T.setVm vm').setCell a _).heap = H.setIfInBounds a _ by rw [← hT]; rfl) X'
  exact ⟨t, step t u1, u2⟩
end KRC
