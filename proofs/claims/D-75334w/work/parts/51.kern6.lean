/-! statics of the component, what stands in the component's world -/
theorem va_thr {s : State} {H : Heap} {D : va_G} {cl : List vw_C} {a q0 ci : Nat} {q : vw_C} {fs : List Value} {ws : va_W} {tys : List (ClassId × FieldType)} (hK : va_K D cl tys s) (hP : va_P D cl ws H) (hc : cl[ci]? = some q) (he : ws[q0]? = some (a, .inr (ci, fs))) : ∃ ce : Cell, H[a]? = some ce ∧ ce.vm = .none ∧ s.vm.findClass q.1 = some ce.cls := by
  obtain ⟨q', h1, cell, g1, g2, g3, -⟩ := hP q0 _ he
  exact ⟨cell, g1, g3, by rw [g2]; exact (hK.1 ci q hc).2.1⟩
theorem ncZ {l : Launch} {dC : Nat → ClassId} {dI : Nat → Nat → Nat} {dA : Nat → ClassId} {s0 s : State} {b0 : Addr} {A : Nat → Prop} {H : Heap} (Z : Z0 l dC dI dA s0 b0) (hG : Gd s0 A s H) {C T : String} (h : (Cond.not (.castable C T)) ∈ flatC (Jvm.Cond.and given_1 narrow_1)) : va_Nc C T s :=
  va_Nc.moved hG.1.alike (va_Nc.of (flat_of_before _ Z.2.2.1 _ h))
theorem castZ {l : Launch} {dC : Nat → ClassId} {dI : Nat → Nat → Nat} {dA : Nat → ClassId} {s0 s : State} {b0 : Addr} {A : Nat → Prop} {args : Array Value} {H : Heap} (Z : Z0 l dC dI dA s0 b0) (hG : Gd s0 A s H) {C T : String} (h : (Cond.castable C T) ∈ lw_tbl) : (Cond.castable C T).before args s = true :=
  (va_Nw.warmC hG.1 (va_Nw.of rfl (Z.2.1 _ h))).use rfl
/-- the signs of an algebra's products, a row -/
def sgT (p q r i : Nat) : Nat → Int32 := fun j => if i < 2 ^ (p + q + r) ∧ j < 2 ^ (p + q + r) then sgS p q r i j else 0
abbrev AGc (dA : Nat → ClassId) (ga sg : Nat) (sr : Nat → Nat) (p q r : Nat) : va_W := [(ga, .inr (1, [.int (nI p), .int (nI q), .int (nI r), .int (nI (p + q + r)), .int (nI (2 ^ (p + q + r) - 1)), .ref sg])), (sg, .inl (dA 9, 32, .inr (.inr (.inr (.inr (fun i => some (sr i)))))))]
/-- an algebra: its object, its rows of signs -/
def AG (A : Nat → Prop) (D : va_G) (dA : Nat → ClassId) (ga sg : Nat) (sr : Nat → Nat) (p q r : Nat) (H : Heap) : Prop := p + q + r ≤ 5 ∧ RO A D (AGc dA ga sg sr p q r) H ∧ ∀ i, i < 32 → RO A D [(sr i, .inl (dA 0, 32, .inl (sgT p q r i)))] H
theorem AG.to {A A1 : Nat → Prop} {D : va_G} {dA : Nat → ClassId} {ga sg : Nat} {sr : Nat → Nat} {p q r : Nat} {H0 H : Heap} {locs : List Loc} (h : AG A D dA ga sg sr p q r H0) (hS : va_S A H0 H locs) (hsub : ∀ q, q < H.size → A1 q → A q) : AG A1 D dA ga sg sr p q r H :=
  ⟨h.1, h.2.1.to hS hsub, fun i hi => (h.2.2 i hi).to hS hsub⟩
/-- the registers' multivectors -/
def RG (A : Nat → Prop) (D : va_G) (dA : Nat → ClassId) (m r : Nat → Nat) (Ms : Nat → MV) (H : Heap) : Prop := ∀ k, k < 8 → RO A D (MA dA (m k) (r k) (Ms k)) H
theorem RG.to {A A1 : Nat → Prop} {D : va_G} {dA : Nat → ClassId} {m r : Nat → Nat} {Ms : Nat → MV} {H0 H : Heap} {locs : List Loc} (h : RG A D dA m r Ms H0) (hS : va_S A H0 H locs) (hsub : ∀ q, q < H.size → A1 q → A q) : RG A1 D dA m r Ms H := fun k hk => (h k hk).to hS hsub
def prC (k : Nat) : String := ["BladeAlgebra$Product$1", "BladeAlgebra$Product$2", "BladeAlgebra$Product$3", "BladeAlgebra$Product$4", "BladeAlgebra$Product$5"].getD k ""
def prN (k : Nat) : String := ["ALL", "OUTER", "LEFT", "RIGHT", "SCALAR"].getD k ""
def twC (k : Nat) : String := ["BladeAlgebra$Two$1", "BladeAlgebra$Two$2", "BladeAlgebra$Two$3", "BladeAlgebra$Two$4", "BladeAlgebra$Two$5", "BladeAlgebra$Two$6", "BladeAlgebra$Two$7", "BladeAlgebra$Two$8", "BladeAlgebra$Two$9"].getD k ""
def twN (k : Nat) : String := ["SUM", "DIFFERENCE", "PRODUCT", "OUTER", "LEFT", "RIGHT", "SCALAR", "MEET", "COMMUTATOR"].getD k ""
def onC (k : Nat) : String := ["BladeAlgebra$One$1", "BladeAlgebra$One$2", "BladeAlgebra$One$3", "BladeAlgebra$One$4", "BladeAlgebra$One$5", "BladeAlgebra$One$6", "BladeAlgebra$One$7", "BladeAlgebra$One$8", "BladeAlgebra$One$9", "BladeAlgebra$One$10"].getD k ""
def onN (k : Nat) : String := ["REVERSE", "INVOLUTION", "CONJUGATE", "COMPLEMENT", "BACK", "DUAL", "EVEN", "ODD", "NEGATIVE", "INVERSE"].getD k ""
/-- the component's statics at the start: where they stand -/
def SS (D : va_G) (dA : Nat → ClassId) (σ : Nat → Nat) (s0 : State) : Prop :=
  (SG D dA (σ 0) s0 ∧ ST s0) ∧
  (va_Z "BladeAlgebra$Multi" "ZERO" "LBladeAlgebra$Multi;" (.ref (σ 1)) (fun _ => False) s0 s0.heap ∧ va_P D vwCl (MA dA (σ 1) (σ 2) (numM 0)) s0.heap) ∧
  (vk_R "BladeAlgebra" 5 "there is no such one" (σ 50) s0 ∧ vk_R "BladeAlgebra" 13 "out of range" (σ 51) s0 ∧ vk_R "BladeAlgebra" 18 "not possible now" (σ 52) s0 ∧ vk_R "BladeAlgebra" 23 "not of that kind" (σ 53) s0 ∧ vk_R "BladeAlgebra" 120 "does not fit" (σ 54) s0 ∧ vk_R "BladeAlgebra$Unfit" 1 "does not fit" (σ 55) s0 ∧ vk_R "BladeAlgebra$Flaw" 7 "flaw" (σ 56) s0) ∧
  (∀ k, k < 5 → va_Z "BladeAlgebra$Product" (prN k) "LBladeAlgebra$Product;" (.ref (σ (10 + k))) (fun _ => False) s0 s0.heap ∧ va_O (prC k) (σ (10 + k)) (fun _ => False) s0 s0.heap) ∧
  (∀ k, k < 9 → va_Z "BladeAlgebra$Two" (twN k) "LBladeAlgebra$Two;" (.ref (σ (20 + k))) (fun _ => False) s0 s0.heap ∧ va_O (twC k) (σ (20 + k)) (fun _ => False) s0 s0.heap) ∧
  (∀ k, k < 10 → va_Z "BladeAlgebra$One" (onN k) "LBladeAlgebra$One;" (.ref (σ (30 + k))) (fun _ => False) s0 s0.heap ∧ va_O (onC k) (σ (30 + k)) (fun _ => False) s0 s0.heap) ∧
  (va_Z "BladeAlgebra$Two" "$VALUES" "[LBladeAlgebra$Two;" (.ref (σ 3)) (fun _ => False) s0 s0.heap ∧ va_P D vwCl [(σ 3, .inl (dA 6, 9, .inr (.inr (.inr (.inr (fun k => some (σ (20 + k))))))))] s0.heap) ∧
  (va_Z "BladeAlgebra$One" "$VALUES" "[LBladeAlgebra$One;" (.ref (σ 4)) (fun _ => False) s0 s0.heap ∧ va_P D vwCl [(σ 4, .inl (dA 7, 10, .inr (.inr (.inr (.inr (fun k => some (σ (30 + k))))))))] s0.heap)
section SSP
variable {D : va_G} {dA : Nat → ClassId} {σ : Nat → Nat} {s0 : State}
theorem SS.gr (Y : SS D dA σ s0) : SG D dA (σ 0) s0 := Y.1.1
theorem SS.st (Y : SS D dA σ s0) : ST s0 := Y.1.2
theorem SS.zero (Y : SS D dA σ s0) : va_Z "BladeAlgebra$Multi" "ZERO" "LBladeAlgebra$Multi;" (.ref (σ 1)) (fun _ => False) s0 s0.heap ∧ va_P D vwCl (MA dA (σ 1) (σ 2) (numM 0)) s0.heap := Y.2.1
theorem SS.st0 (Y : SS D dA σ s0) : vk_R "BladeAlgebra" 5 "there is no such one" (σ 50) s0 := Y.2.2.1.1
theorem SS.st1 (Y : SS D dA σ s0) : vk_R "BladeAlgebra" 13 "out of range" (σ 51) s0 := Y.2.2.1.2.1
theorem SS.st2 (Y : SS D dA σ s0) : vk_R "BladeAlgebra" 18 "not possible now" (σ 52) s0 := Y.2.2.1.2.2.1
theorem SS.st3 (Y : SS D dA σ s0) : vk_R "BladeAlgebra" 23 "not of that kind" (σ 53) s0 := Y.2.2.1.2.2.2.1
theorem SS.st4 (Y : SS D dA σ s0) : vk_R "BladeAlgebra" 120 "does not fit" (σ 54) s0 := Y.2.2.1.2.2.2.2.1
theorem SS.st5 (Y : SS D dA σ s0) : vk_R "BladeAlgebra$Unfit" 1 "does not fit" (σ 55) s0 := Y.2.2.1.2.2.2.2.2.1
theorem SS.st6 (Y : SS D dA σ s0) : vk_R "BladeAlgebra$Flaw" 7 "flaw" (σ 56) s0 := Y.2.2.1.2.2.2.2.2.2
theorem SS.pr (Y : SS D dA σ s0) : ∀ k, k < 5 → va_Z "BladeAlgebra$Product" (prN k) "LBladeAlgebra$Product;" (.ref (σ (10 + k))) (fun _ => False) s0 s0.heap ∧ va_O (prC k) (σ (10 + k)) (fun _ => False) s0 s0.heap := Y.2.2.2.1
theorem SS.tw (Y : SS D dA σ s0) : ∀ k, k < 9 → va_Z "BladeAlgebra$Two" (twN k) "LBladeAlgebra$Two;" (.ref (σ (20 + k))) (fun _ => False) s0 s0.heap ∧ va_O (twC k) (σ (20 + k)) (fun _ => False) s0 s0.heap := Y.2.2.2.2.1
theorem SS.on (Y : SS D dA σ s0) : ∀ k, k < 10 → va_Z "BladeAlgebra$One" (onN k) "LBladeAlgebra$One;" (.ref (σ (30 + k))) (fun _ => False) s0 s0.heap ∧ va_O (onC k) (σ (30 + k)) (fun _ => False) s0 s0.heap := Y.2.2.2.2.2.1
theorem SS.tv (Y : SS D dA σ s0) : va_Z "BladeAlgebra$Two" "$VALUES" "[LBladeAlgebra$Two;" (.ref (σ 3)) (fun _ => False) s0 s0.heap ∧ va_P D vwCl [(σ 3, .inl (dA 6, 9, .inr (.inr (.inr (.inr (fun k => some (σ (20 + k))))))))] s0.heap := Y.2.2.2.2.2.2.1
theorem SS.ov (Y : SS D dA σ s0) : va_Z "BladeAlgebra$One" "$VALUES" "[LBladeAlgebra$One;" (.ref (σ 4)) (fun _ => False) s0 s0.heap ∧ va_P D vwCl [(σ 4, .inl (dA 7, 10, .inr (.inr (.inr (.inr (fun k => some (σ (30 + k))))))))] s0.heap := Y.2.2.2.2.2.2.2
end SSP
/-- a constant object of the start, as a receiver -/
theorem Gd.O {s0 s : State} {A : Nat → Prop} {C : String} {a : Nat} {H : Heap} {locs : List Loc} (hG : Gd s0 A s s.heap) (h : va_O C a (fun _ => False) s0 s0.heap) (hS : va_S A s.heap H locs) : ∃ cell : Cell, H[a]? = some cell ∧ cell.vm.isStatics = false ∧ s.vm.findClass C = some cell.cls := by
  obtain ⟨cell, h1, h2, h3, -⟩ := h
  have ha : a < s0.heap.size := by
    rcases Nat.lt_or_ge a s0.heap.size with c | c
    · exact c
    · rw [Array.getElem?_eq_none c] at h1; cases h1
  have hq := hG.2.2 a ha
  obtain ⟨cell2, k1, k2, k3, -⟩ := va_O.moved (u := s0) (U := s) hG.1.alike (E := C) (t := a) (A := fun _ => False) (H := s0.heap) ⟨cell, h1, h2, h3, fun h => h⟩
  refine ⟨cell2, ?_, k2, k3⟩
  rw [hS.2.1 a (Nat.lt_of_lt_of_le ha hG.2.1) hq.2, hq.1]; exact k1
/-! rows over the kit, at a place that is a number -/
section KR6
variable {p : Program} {l : Launch} {e : Env} {R : Room} {s : State} {m : MethodId} {args : Array Value} {below : List Frame} {meth : Method} {c : Code} {H : Heap} {locs : List Loc} {cells slots : Nat} {Q : State → Prop}
variable {cc : ByteArray} {pc : Nat} {ls : Array Slot} {rest : List Value} {D : va_G} {cl : List vw_C} {A : Nat → Prop} {a : Nat} {tys : List (ClassId × FieldType)} {ws : va_W} {H0 : Heap}
theorem a_aldq (hexec : p.tables.exec = Jvm.exec) (hb : c.code = cc) (hK : va_K D cl tys s) (hP : va_P D cl ws H) (q0 t0 : Nat) {cA : ClassId} {C : String} {n k : Nat} {f : Nat → Option Nat} (ha : ws[q0]? = some (a, .inl (cA, n, .inr (.inr (.inr (.inr f)))))) (ht : tys[t0]? = some (cA, .object C)) (hk : k < n) (hn : n < 2 ^ 31) (hdg : decode cc pc = .ok (.aaload, 1)) (kk : W p l e R s m args below meth c H locs cells slots Q (F0 m (pc + 1) ls (va_rf (f k) :: rest))) : W p l e R s m args below meth c H locs cells slots Q (F0 m pc ls (.int (nI k) :: .ref a :: rest)) :=
  va_aldq hexec hb hK hP q0 t0 ha ht (vp_in_nI hk hn) hdg (by rw [nI_clamp (Nat.lt_trans hk hn)]; exact kk)
theorem a_astM (hexec : p.tables.exec = Jvm.exec) (hb : c.code = cc) (hK : va_K D cl tys s) (hP : va_P D cl ws H) (hD : va_D A ws) (hS : va_S A H0 H locs) (q0 t0 : Nat) {E : String} {cA : ClassId} {n v k : Nat} {f : Nat → Option Nat} (ha : ws[q0]? = some (a, .inl (cA, n, .inr (.inr (.inr (.inr f)))))) (ht : tys[t0]? = some (cA, .object E)) (hr : va_Any E s H v) (hk : k < n) (hn : n < 2 ^ 31) (hdg : decode cc pc = .ok (.aastore, 1)) (kk : ∀ (H1 : Heap) (locs1 : List Loc), va_P D cl (ws.set q0 (a, .inl (cA, n, .inr (.inr (.inr (.inr (va_up f k (some v)))))))) H1 → va_D A (ws.set q0 (a, .inl (cA, n, .inr (.inr (.inr (.inr (va_up f k (some v)))))))) → va_S A H0 H1 locs1 → W p l e R s m args below meth c H1 locs1 cells slots Q (F0 m (pc + 1) ls rest)) : W p l e R s m args below meth c H locs cells slots Q (F0 m pc ls (.ref v :: .int (nI k) :: .ref a :: rest)) :=
  va_astqM hexec hb hK hP hD hS q0 t0 ha ht hr (vp_in_nI hk hn) hdg (by rw [nI_clamp (Nat.lt_trans hk hn)]; exact kk)
end KR6
