/-! the host: itemOf, sheet, write, item, shelf -/
set_option maxRecDepth 100000
theorem nc_NC : ("java/lang/NullPointerException", "java/lang/ClassCastException") ∈ ncL := List.contains_iff_mem.mp (by decide +kernel)
theorem nc_RC : ("HadForVoice$Refusal", "java/lang/ClassCastException") ∈ ncL := List.contains_iff_mem.mp (by decide +kernel)
theorem nc_RN : ("HadForVoice$Refusal", "java/lang/NullPointerException") ∈ ncL := List.contains_iff_mem.mp (by decide +kernel)
theorem nw_CC : Cond.castable "java/lang/ClassCastException" "java/lang/ClassCastException" ∈ nwL := List.mem_of_getElem? (i := 62) rfl
theorem nw_NN : Cond.castable "java/lang/NullPointerException" "java/lang/NullPointerException" ∈ nwL := List.mem_of_getElem? (i := 63) rfl
theorem nw_SS : Cond.castable "java/lang/NegativeArraySizeException" "java/lang/NegativeArraySizeException" ∈ nwL := List.mem_of_getElem? (i := 61) rfl
theorem nw_AA : Cond.castable "java/lang/ArithmeticException" "java/lang/ArithmeticException" ∈ nwL := List.mem_of_getElem? (i := 64) rfl
def shGet (k : Nat) (x : Int32) : Int32 := match k with | 0 => x | 1 => x | 2 => x | 3 => x | _ => if x = 0 then 0 else 1
theorem is4 : ∀ i, i < 4 → kF_isShelf (nI i) = 1 := by
  have : ∀ i, i < 4 → kF_isIn (nI i) 0 3 = 1 := by
    unfold kF_isIn
    decide
  exact this
theorem is5 : ∀ k, k < 5 → kF_isIn (nI k) (-1) 4 = 1 ∧ kF_isIn (nI k) 0 4 = 1 ∧ ¬ nI k < 0 := by
  unfold kF_isIn
  decide
section KHC
variable {p : Program} {l : Launch} {e0 : Env} {R : Room} {s : State} {m : MethodId} {args : Array Value} {below : List Frame} {meth : Method} {c : Code} {Q : State → Prop} {D : va_G} {A : Nat → Prop} {nL ce sl : Nat} {g : St} {pc : Nat} {lv : List (Nat × Value)} {st : List Value} {cc : ByteArray} {own : String} {K : Nat → Nat} {δ : Nat → ClassId} {sr ρ : Rf} {dy d1 d2 : va_W} {aK aV : Nat → Nat}
theorem tw_aload_nV (X : Cx p c cc nL s args own m meth D vwCl (kT δ) A) {k0 : Fin 4} {i : Nat} {v : Value} (hv : v = .null ∨ ∃ x, v = .ref x) (hdg : decode cc pc = .ok (.aload_n k0, 1)) (hi : (k0 : Nat) = i) (q : Nat) (hq : lv[q]? = some (i, v)) (k : TW p l e0 R s m args below meth c Q D vwCl A (kW K δ sr ρ dy) nL ce sl g (pc + 1) lv (v :: st)) : TW p l e0 R s m args below meth c Q D vwCl A (kW K δ sr ρ dy) nL ce sl g pc lv st := by
  rcases hv with rfl | ⟨x, rfl⟩
  · exact tw_aload_nN X hdg hi q hq k
  · exact tw_aload_n X hdg hi q hq k
theorem tw_aloadV (X : Cx p c cc nL s args own m meth D vwCl (kT δ) A) {i : Nat} {v : Value} (hv : v = .null ∨ ∃ x, v = .ref x) (hdg : decode cc pc = .ok (.aload i, 2)) (q : Nat) (hq : lv[q]? = some (i, v)) (k : TW p l e0 R s m args below meth c Q D vwCl A (kW K δ sr ρ dy) nL ce sl g (pc + 2) lv (v :: st)) : TW p l e0 R s m args below meth c Q D vwCl A (kW K δ sr ρ dy) nL ce sl g pc lv st := by
  rcases hv with rfl | ⟨x, rfl⟩
  · exact fun H locs ls hl hP hD hS => lv_aloadN X.hx X.hb hdg (lv_at hl q hq) (k H locs ls hl hP hD hS)
  · exact tw_aload X hdg q hq k
theorem tw_astoreV (X : Cx p c cc nL s args own m meth D vwCl (kT δ) A) {i : Nat} {v : Value} {lv' : List (Nat × Value)} (hv : v = .null ∨ ∃ x, v = .ref x) (hdg : decode cc pc = .ok (.astore i, 2)) (hn : i < nL) (hl' : (i, v) :: lv.filter (fun q => !(q.1 == i) && !(q.1 + 1 == i && q.2.category == 2)) = lv') (k : TW p l e0 R s m args below meth c Q D vwCl A (kW K δ sr ρ dy) nL ce sl g (pc + 2) lv' st) : TW p l e0 R s m args below meth c Q D vwCl A (kW K δ sr ρ dy) nL ce sl g pc lv (v :: st) := by
  rcases hv with rfl | ⟨x, rfl⟩
  · exact fun H locs ls hl hP hD hS => lv_astoreN X.hx X.hb hdg hl hn hl' (fun ls' hl2 => k H locs ls' hl2 hP hD hS)
  · exact tw_astore X hdg hn hl' k
theorem tw_astore_nV (X : Cx p c cc nL s args own m meth D vwCl (kT δ) A) {k0 : Fin 4} {i : Nat} {v : Value} {lv' : List (Nat × Value)} (hv : v = .null ∨ ∃ x, v = .ref x) (hdg : decode cc pc = .ok (.astore_n k0, 1)) (hi : (k0 : Nat) = i) (hn : i < nL) (hl' : (i, v) :: lv.filter (fun q => !(q.1 == i) && !(q.1 + 1 == i && q.2.category == 2)) = lv') (k : TW p l e0 R s m args below meth c Q D vwCl A (kW K δ sr ρ dy) nL ce sl g (pc + 1) lv' st) : TW p l e0 R s m args below meth c Q D vwCl A (kW K δ sr ρ dy) nL ce sl g pc lv (v :: st) := by
  rcases hv with rfl | ⟨x, rfl⟩
  · exact tw_astore_nN X hdg hi hn hl' k
  · exact tw_astore_n X hdg hi hn hl' k
theorem rf_v (r : Option Nat) : va_rf r = .null ∨ ∃ x, va_rf r = .ref x := by
  cases r with
  | none => exact Or.inl rfl
  | some x => exact Or.inr ⟨x, rfl⟩
/-- sheets[i], shelves[i], what they hold -/
theorem tr_sheet (X : Cx p c cc nL s args own m meth D vwCl (kT δ) A) {i : Nat} (hi : i < 4) (hdg : decode cc pc = .ok (.aaload, 1)) (kk : TW p l e0 R s m args below meth c Q D vwCl A (kW K δ sr ρ dy) nL ce sl g (pc + 1) lv (.ref (K (120 + i)) :: st)) : TW p l e0 R s m args below meth c Q D vwCl A (kW K δ sr ρ dy) nL ce sl g pc lv (.int (nI i) :: .ref (K 31) :: st) :=
  fun H locs ls hl hP hD hS => va_aldq X.hx X.hb X.hK hP 57 4 (rfl : (kW K δ sr ρ dy g)[57]? = some (K 31, .inl (δ 4, 4, .inr (.inr (.inr (.inr (fun i => some (K (120 + i)))))))) ) rfl (vp_in_nI hi (by decide)) hdg (by rw [nI_clamp (by omega)]; exact kk H locs ls hl hP hD hS)
theorem tr_shelf (X : Cx p c cc nL s args own m meth D vwCl (kT δ) A) {i : Nat} (hi : i < 4) (hdg : decode cc pc = .ok (.aaload, 1)) (kk : TW p l e0 R s m args below meth c Q D vwCl A (kW K δ sr ρ dy) nL ce sl g (pc + 1) lv (.ref (K (110 + i)) :: st)) : TW p l e0 R s m args below meth c Q D vwCl A (kW K δ sr ρ dy) nL ce sl g pc lv (.int (nI i) :: .ref (K 30) :: st) :=
  fun H locs ls hl hP hD hS => va_aldq X.hx X.hb X.hK hP 56 4 (rfl : (kW K δ sr ρ dy g)[56]? = some (K 30, .inl (δ 4, 4, .inr (.inr (.inr (.inr (fun i => some (K (110 + i)))))))) ) rfl (vp_in_nI hi (by decide)) hdg (by rw [nI_clamp (by omega)]; exact kk H locs ls hl hP hD hS)
theorem sheet_at : ∀ i, i < 4 → (kW K δ sr ρ dy g)[62 + i]? = some (K (120 + i), .inr (4, [va_rf (ρ 3 i)]))
  | 0, _ => rfl
  | 1, _ => rfl
  | 2, _ => rfl
  | 3, _ => rfl
theorem shelf_at : ∀ i, i < 4 → (kW K δ sr ρ dy g)[58 + i]? = some (K (110 + i), .inr (4, [va_rf (ρ 2 i)]))
  | 0, _ => rfl
  | 1, _ => rfl
  | 2, _ => rfl
  | 3, _ => rfl
theorem sheet_set (x : Option Nat) : ∀ i, i < 4 → (kW K δ sr ρ dy g).set (62 + i) (K (120 + i), .inr (4, [va_rf x])) = kW K δ sr (upR ρ 3 i x) dy g
  | 0, _ => rfl
  | 1, _ => rfl
  | 2, _ => rfl
  | 3, _ => rfl
theorem shelf_set (x : Option Nat) : ∀ i, i < 4 → (kW K δ sr ρ dy g).set (58 + i) (K (110 + i), .inr (4, [va_rf x])) = kW K δ sr (upR ρ 2 i x) dy g
  | 0, _ => rfl
  | 1, _ => rfl
  | 2, _ => rfl
  | 3, _ => rfl
theorem rf_fitO (r : Option Nat) : fits (.object "java/lang/Object") (va_rf r) = true ∧ narrow (.object "java/lang/Object") (va_rf r) = va_rf r := by cases r <;> exact ⟨rfl, rfl⟩
theorem tr_getS (X : Cx p c cc nL s args RX0 m meth D vwCl (kT δ) A) {i : Nat} (hi : i < 4) (hdg : decode cc pc = .ok (.getfield 522, 3)) (kk : TW p l e0 R s m args below meth c Q D vwCl A (kW K δ sr ρ dy) nL ce sl g (pc + 3) lv (va_rf (ρ 3 i) :: st)) : TW p l e0 R s m args below meth c Q D vwCl A (kW K δ sr ρ dy) nL ce sl g pc lv (.ref (K (120 + i)) :: st) := tw_getN X in_X5 (62 + i) (sheet_at i hi) rfl 0 (by decide) nq391 rfl rfl hdg kk
theorem tr_getH (X : Cx p c cc nL s args RX0 m meth D vwCl (kT δ) A) {i : Nat} (hi : i < 4) (hdg : decode cc pc = .ok (.getfield 522, 3)) (kk : TW p l e0 R s m args below meth c Q D vwCl A (kW K δ sr ρ dy) nL ce sl g (pc + 3) lv (va_rf (ρ 2 i) :: st)) : TW p l e0 R s m args below meth c Q D vwCl A (kW K δ sr ρ dy) nL ce sl g pc lv (.ref (K (110 + i)) :: st) := tw_getN X in_X5 (58 + i) (shelf_at i hi) rfl 0 (by decide) nq391 rfl rfl hdg kk
theorem tr_putS (X : Cx p c cc nL s args RX0 m meth D vwCl (kT δ) A) {i : Nat} {x : Option Nat} (hi : i < 4) (hdg : decode cc pc = .ok (.putfield 522, 3)) (kk : TW p l e0 R s m args below meth c Q D vwCl A (kW K δ sr (upR ρ 3 i x) dy) nL ce sl g (pc + 3) lv st) : TW p l e0 R s m args below meth c Q D vwCl A (kW K δ sr ρ dy) nL ce sl g pc lv (va_rf x :: .ref (K (120 + i)) :: st) :=
  fun H locs ls hl hP hD hS => va_putN X.hx X.hb X.hts in_X5 tyX5 tyX5_ok nmX5 X.hown X.hK hP hD hS (62 + i) (sheet_at i hi) rfl 0 (by decide) (va_Nw.use rfl (X.hN.1 _ nq391)) (fun _ h => h) rfl (ty := .object "java/lang/Object") rfl (rf_fitO x).2 (rf_fitO x).1 (Nat.le_of_ble_eq_true rfl) hdg (fun H1 locs1 hP1 hD1 hS1 => kk H1 locs1 ls hl (by rw [← sheet_set x i hi]; exact hP1) (by rw [← sheet_set x i hi]; exact hD1) hS1)
theorem tr_putH (X : Cx p c cc nL s args RX0 m meth D vwCl (kT δ) A) {i : Nat} {x : Option Nat} (hi : i < 4) (hdg : decode cc pc = .ok (.putfield 522, 3)) (kk : TW p l e0 R s m args below meth c Q D vwCl A (kW K δ sr (upR ρ 2 i x) dy) nL ce sl g (pc + 3) lv st) : TW p l e0 R s m args below meth c Q D vwCl A (kW K δ sr ρ dy) nL ce sl g pc lv (va_rf x :: .ref (K (110 + i)) :: st) :=
  fun H locs ls hl hP hD hS => va_putN X.hx X.hb X.hts in_X5 tyX5 tyX5_ok nmX5 X.hown X.hK hP hD hS (58 + i) (shelf_at i hi) rfl 0 (by decide) (va_Nw.use rfl (X.hN.1 _ nq391)) (fun _ h => h) rfl (ty := .object "java/lang/Object") rfl (rf_fitO x).2 (rf_fitO x).1 (Nat.le_of_ble_eq_true rfl) hdg (fun H1 locs1 hP1 hD1 hS1 => kk H1 locs1 ls hl (by rw [← shelf_set x i hi]; exact hP1) (by rw [← shelf_set x i hi]; exact hD1) hS1)
theorem kg_ansR (X : Cx p c cc nL s args RX0 m meth D vwCl (kT δ) A) (hdg : decode cc pc = .ok (.getfield 547, 3)) (kk : TW p l e0 R s m args below meth c Q D vwCl A (kW K δ sr ρ dy) nL ce sl g (pc + 3) lv (.int (g 35 0) :: st)) : TW p l e0 R s m args below meth c Q D vwCl A (kW K δ sr ρ dy) nL ce sl g pc lv (.ref (K 1) :: st) := tw_get X in_X1 1 rfl rfl 6 (by decide) q231 rfl rfl hdg kk
theorem up35 {x : Int32} : up2 g 35 0 x 35 0 = x := by rw [up2_row, pk_us]
/-- the three handlers -/
theorem tx_catch3 (Y : CY p c cc nL s args RX0 m meth D vwCl (kT δ) A aK aV) {a b h1 h2 h3 w : Nat} {ans : Int32} {rest : List (Nat × Nat × Nat × Nat)} (htab : c.exceptionTable.toList = tableOf ((a, b, h1, 556) :: (a, b, h2, 558) :: (a, b, h3, 8) :: rest)) (hcov : ∀ h t, covers ⟨a, b, h, t⟩ pc = true) {q : Addr} {E : String} {t : State} (hx : HX D A K δ sr ρ dy g w ans q E t) (k0 : w = 0 → ∀ q, TW p l e0 R s m args below meth c Q D vwCl A (kW K δ sr ρ dy) nL ce sl g h1 lv [.ref q]) (k1 : w = 1 → ∀ q, TW p l e0 R s m args below meth c Q D vwCl A (kW K δ sr ρ dy) nL ce sl g h2 lv [.ref q]) (k2 : w = 2 → TW p l e0 R s m args below meth c Q D vwCl A (kW K δ sr ρ dy) nL ce sl (up2 g 35 0 ans) h3 lv [.ref (K 1)]) : TV p l e0 R s m args below meth c Q A nL ce sl t.heap pc lv st E q := by
  have X := Y.x
  rcases hx with ⟨h0, rfl, b⟩ | ⟨h0, rfl, b⟩ | ⟨h0, rfl, rfl, b⟩
  · exact tx_catch X [] ⟨_, _, _, 556⟩ _ htab (fun z hz => by cases hz) (hcov _ _) (show (556 : Nat) ≠ 0 by decide) q1226 nw_CC (TW.at (k0 h0 q) b)
  · refine tx_catch X [⟨_, _, _, 556⟩] ⟨_, _, _, 558⟩ _ htab (fun z hz => ?_) (hcov _ _) (show (558 : Nat) ≠ 0 by decide) q1240 nw_NN (TW.at (k1 h0 q) b)
    rw [List.mem_singleton] at hz
    subst hz
    exact Or.inr ⟨show (556 : Nat) ≠ 0 by decide, _, q1226, Y.n.2.2.2.2.2.2.1 _ nc_NC⟩
  · refine tx_catch X [⟨_, _, _, 556⟩, ⟨_, _, _, 558⟩] ⟨_, _, _, 8⟩ _ htab (fun z hz => ?_) (hcov _ _) (show (8 : Nat) ≠ 0 by decide) q159 nq161 (TW.at (k2 h0) b)
    rcases List.mem_cons.mp hz with rfl | hz
    · exact Or.inr ⟨show (556 : Nat) ≠ 0 by decide, _, q1226, Y.n.2.2.2.2.2.2.1 _ nc_RC⟩
    · rw [List.mem_singleton] at hz
      subst hz
      exact Or.inr ⟨show (558 : Nat) ≠ 0 by decide, _, q1240, Y.n.2.2.2.2.2.2.1 _ nc_RN⟩
theorem RVs.v {v : Value} {so : Nat} {r : Nat ⊕ Nat} (h : RVs δ dy v so r) : v = .null ∨ ∃ x, v = .ref x := by
  rcases h with ⟨q, N, f, rfl, _⟩ | ⟨q, k', N, f, rfl, _⟩ | ⟨q, kd, fs, rfl, _⟩ | ⟨rfl, _⟩
  · exact Or.inr ⟨_, rfl⟩
  · exact Or.inr ⟨_, rfl⟩
  · exact Or.inr ⟨_, rfl⟩
  · exact Or.inl rfl
theorem tw_sald (X : Cx p c cc nL s args own m meth D vwCl (kT δ) A) (q0 : Nat) {q j N : Nat} {cA : ClassId} {f : Nat → Int32} (he : (kW K δ sr ρ dy g)[q0]? = some (q, .inl (cA, N, .inl f))) (ht : (kT δ)[6]? = some (cA, .short)) (hj : j < N) (hN : N < 2 ^ 20) (hdg : decode cc pc = .ok (.saload, 1)) (kk : TW p l e0 R s m args below meth c Q D vwCl A (kW K δ sr ρ dy) nL ce sl g (pc + 1) lv (.int (f j) :: st)) : TW p l e0 R s m args below meth c Q D vwCl A (kW K δ sr ρ dy) nL ce sl g pc lv (.int (nI j) :: .ref q :: st) :=
  fun H locs ls hl hP hD hS => va_sald X.hx X.hb X.hK hP q0 6 he ht (vp_in_nI hj (by omega)) hdg (by rw [nI_clamp (by omega)]; exact kk H locs ls hl hP hD hS)
theorem tw_lald (X : Cx p c cc nL s args own m meth D vwCl (kT δ) A) (q0 : Nat) {q j N : Nat} {cA : ClassId} {f : Nat → Int64} (he : (kW K δ sr ρ dy g)[q0]? = some (q, .inl (cA, N, .inr (.inl f)))) (ht : (kT δ)[7]? = some (cA, .long)) (hj : j < N) (hN : N < 2 ^ 20) (hdg : decode cc pc = .ok (.laload, 1)) (kk : TW p l e0 R s m args below meth c Q D vwCl A (kW K δ sr ρ dy) nL ce sl g (pc + 1) lv (.long (f j) :: st)) : TW p l e0 R s m args below meth c Q D vwCl A (kW K δ sr ρ dy) nL ce sl g pc lv (.int (nI j) :: .ref q :: st) :=
  fun H locs ls hl hP hD hS => va_lald X.hx X.hb X.hK hP q0 7 he ht (vp_in_nI hj (by omega)) hdg (by rw [nI_clamp (by omega)]; exact kk H locs ls hl hP hD hS)
theorem tw_zald (X : Cx p c cc nL s args own m meth D vwCl (kT δ) A) (q0 : Nat) {q j N : Nat} {cA : ClassId} {f : Nat → Int32} (he : (kW K δ sr ρ dy g)[q0]? = some (q, .inl (cA, N, .inl f))) (ht : (kT δ)[8]? = some (cA, .boolean)) (hj : j < N) (hN : N < 2 ^ 20) (hdg : decode cc pc = .ok (.baload, 1)) (kk : TW p l e0 R s m args below meth c Q D vwCl A (kW K δ sr ρ dy) nL ce sl g (pc + 1) lv (.int (f j) :: st)) : TW p l e0 R s m args below meth c Q D vwCl A (kW K δ sr ρ dy) nL ce sl g pc lv (.int (nI j) :: .ref q :: st) :=
  fun H locs ls hl hP hD hS => va_zald X.hx X.hb X.hK hP q0 8 he ht (vp_in_nI hj (by omega)) hdg (by rw [nI_clamp (by omega)]; exact kk H locs ls hl hP hD hS)
/-- an item, where the row is of the sort -/
theorem kx_itemOf (hl : l.stackTraces = false) {q N so : Nat} {f : Nat → Int32} (hk : so < 5) (hm : (q, shE δ so N f) ∈ dy) (hN : N ≤ 40) (i : Int32) : CX l yX0_itemOf cX0_itemOf 4 (some .int) 9 10290 3 1010 D vwCl (kT δ) A aK aV (kW K δ sr ρ dy) [.ref (K 0), .ref q, .int (nI so), .int i] g (fun w t => ∃ j, j < N ∧ i = nI j ∧ w = some (.int (shGet so (f j))) ∧ BW D vwCl A (kW K δ sr ρ dy) g t) (fun q E t => kF_isIn i 0 (nI N - 1) = 0 ∧ HX D A K δ sr ρ dy g 2 (-12) q E t) := by
  refine cx_intro (own := RX0) (lv0 := [(0, .ref (K 0)), (1, .ref q), (2, .int (nI so)), (3, .int i)]) (by decide) rfl (Nat.le_of_ble_eq_true rfl) rfl ?_
  intro p e s m args below meth c Y hr hmn htab
  have X := Y.x
  refine tw_aload_n X dX0_itemOf_0 rfl 0 rfl ?_
  refine tw_iload_n X dX0_itemOf_1 rfl 3 rfl ?_
  refine tw_iconst (v := 0) X dX0_itemOf_2 rfl ?_
  refine tw_aload_n X dX0_itemOf_3 rfl 1 rfl ?_
  refine tw_iload_n X dX0_itemOf_4 rfl 2 rfl ?_
  refine tx_callS (n := 2) (As := [.ref q, .int (nI so)]) (st := [.int 0, .int i, .ref (K 0)]) Y (kx_manyOf hl hk (Or.inl ⟨q, N, f, rfl, hm, hN, rfl⟩)) kGX0_548 kI_X0_manyOf ⟨Nat.le_of_ble_eq_true rfl, Nat.le_of_ble_eq_true rfl⟩ ⟨Nat.le_of_ble_eq_true rfl, Nat.le_of_ble_eq_true rfl⟩ rfl rfl (Nat.le_of_ble_eq_true rfl) dX0_itemOf_5 (fun E x t h => ?_) (fun v t h => ?_)
  · obtain ⟨w, h1, _⟩ := h
    cases h1
  · obtain ⟨N', h1, rfl, hb⟩ := h
    cases h1
    refine TW.at ?_ hb
    refine tw_iconst (v := 1) X dX0_itemOf_8 rfl ?_
    refine tw_isub X dX0_itemOf_9 ?_
    refine tw_callSz (As := [.int i, .int 0, .int (nI N - 1)]) (st := [.ref (K 0)]) X (kC_isIn i 0 (nI N - 1)) kGX0_149 kI_X0_isIn ⟨Nat.le_of_ble_eq_true rfl, Nat.le_of_ble_eq_true rfl⟩ ⟨Nat.le_of_ble_eq_true rfl, Nat.le_of_ble_eq_true rfl⟩ rfl rfl (Nat.le_of_ble_eq_true rfl) dX0_itemOf_10 (fun hz => ?_)
    refine tw_bipush (v := -12) X dX0_itemOf_13 rfl ?_
    refine tx_callV (n := 2) (b := K 0) (As := [.int (kF_isIn i 0 (nI N - 1)), .int (-12)]) (st := []) Y (kx_must _ (-12) hz) kGX0_536 kI_X0_must ⟨Nat.le_of_ble_eq_true rfl, Nat.le_of_ble_eq_true rfl⟩ ⟨Nat.le_of_ble_eq_true rfl, Nat.le_of_ble_eq_true rfl⟩ 0 rfl rfl rfl rfl (Nat.zero_le _) dX0_itemOf_15 (fun E x t h => tx_out X htab (Nat.le_refl _) (Nat.le_refl _) (fun t2 e2 => ?_)) (fun v t h => ?_)
    · obtain ⟨h1, h2⟩ := h
      refine ⟨h1, ?_⟩
      rcases h2 with ⟨h3, _⟩ | ⟨h3, _⟩ | ⟨h3, h4, h5, b⟩
      · cases h3
      · cases h3
      · exact Or.inr (Or.inr ⟨h3, h4, h5, by rw [e2]; exact b.1, b.2⟩)
    · obtain ⟨h1, rfl, hb2⟩ := h
      obtain ⟨j, hj, rfl⟩ := isIn_in (by omega) h1
      obtain ⟨q0, he⟩ := kW_dy (K := K) (sr := sr) (ρ := ρ) (δ := δ) (g := g) hm
      refine TW.at ?_ hb2
      refine tw_iload_n X dX0_itemOf_18 rfl 2 rfl ?_
      match so, hk with
      | 0, _ =>
        refine tw_tableIn (off := 29) (tgt := 48) X dX0_itemOf_19 (v := nI 0) rfl (by decide) (by decide) rfl rfl ?_
        refine tw_aload_n X dX0_itemOf_48 rfl 1 rfl ?_
        refine tr_castY (k := 0) X hm q1214 dX0_itemOf_49 ?_
        refine tw_iload_n X dX0_itemOf_52 rfl 3 rfl ?_
        refine tw_bald (x := f j) (cA := δ 1) (n := N) (f := f) X q0 1 he rfl (rd_n hj (by omega)) dX0_itemOf_53 ?_
        exact tx_iret X hr (Nat.le_refl _) (Nat.le_refl _) (fun t b => ⟨j, hj, rfl, rfl, b⟩) dX0_itemOf_54
      | 1, _ =>
        refine tw_tableIn (off := 36) (tgt := 55) X dX0_itemOf_19 (v := nI 1) rfl (by decide) (by decide) rfl rfl ?_
        refine tw_aload_n X dX0_itemOf_55 rfl 1 rfl ?_
        refine tr_castY (k := 1) X hm q1215 dX0_itemOf_56 ?_
        refine tw_iload_n X dX0_itemOf_59 rfl 3 rfl ?_
        refine tw_sald (f := f) (N := N) (cA := δ 6) X q0 he rfl hj (by omega) dX0_itemOf_60 ?_
        exact tx_iret X hr (Nat.le_refl _) (Nat.le_refl _) (fun t b => ⟨j, hj, rfl, rfl, b⟩) dX0_itemOf_61
      | 2, _ =>
        refine tw_tableIn (off := 43) (tgt := 62) X dX0_itemOf_19 (v := nI 2) rfl (by decide) (by decide) rfl rfl ?_
        refine tw_aload_n X dX0_itemOf_62 rfl 1 rfl ?_
        refine tr_castY (k := 2) X hm q1216 dX0_itemOf_63 ?_
        refine tw_iload_n X dX0_itemOf_66 rfl 3 rfl ?_
        refine tw_iald (x := f j) (cA := δ 0) (n := N) (f := f) X q0 0 he rfl (rd_n hj (by omega)) dX0_itemOf_67 ?_
        exact tx_iret X hr (Nat.le_refl _) (Nat.le_refl _) (fun t b => ⟨j, hj, rfl, rfl, b⟩) dX0_itemOf_68
      | 3, _ =>
        refine tw_tableIn (off := 50) (tgt := 69) X dX0_itemOf_19 (v := nI 3) rfl (by decide) (by decide) rfl rfl ?_
        refine tw_aload_n X dX0_itemOf_69 rfl 1 rfl ?_
        refine tr_castY (k := 3) X hm q1217 dX0_itemOf_70 ?_
        refine tw_iload_n X dX0_itemOf_73 rfl 3 rfl ?_
        refine tw_lald (f := fun i => (f i).toInt64) (N := N) (cA := δ 7) X q0 he rfl hj (by omega) dX0_itemOf_74 ?_
        refine tw_l2i X dX0_itemOf_75 ?_
        exact tx_iret X hr (Nat.le_refl _) (Nat.le_refl _) (fun t b => ⟨j, hj, rfl, by rw [Int32.toInt32_toInt64]; rfl, b⟩) dX0_itemOf_76
      | 4, _ =>
        refine tw_tableOut (tgt := 77) X dX0_itemOf_19 (Or.inr (by decide)) rfl ?_
        refine tw_aload_n X dX0_itemOf_77 rfl 1 rfl ?_
        refine tr_castY (k := 4) X hm q1218 dX0_itemOf_78 ?_
        refine tw_iload_n X dX0_itemOf_81 rfl 3 rfl ?_
        refine tw_zald (f := f) (N := N) (cA := δ 8) X q0 he rfl hj (by omega) dX0_itemOf_82 ?_
        refine tw_if_eq (a := ()) (b := ()) (z := ()) (tgt := 90) X dX0_itemOf_83 rfl (ite_self _) (fun z _ => ?_) (fun z _ => ?_)
        · refine tw_iconst (v := 0) X dX0_itemOf_90 rfl ?_
          exact tx_iret X hr (Nat.le_refl _) (Nat.le_refl _) (fun t b => ⟨j, hj, rfl, by show _ = some (Value.int (if f j = 0 then 0 else 1)); rw [if_pos z], b⟩) dX0_itemOf_91
        · refine tw_iconst (v := 1) X dX0_itemOf_86 rfl ?_
          refine tw_goto (tgt := 91) X dX0_itemOf_87 rfl ?_
          exact tx_iret X hr (Nat.le_refl _) (Nat.le_refl _) (fun t b => ⟨j, hj, rfl, by show _ = some (Value.int (if f j = 0 then 0 else 1)); rw [if_neg z], b⟩) dX0_itemOf_91
/-- .. where it isn't -/
theorem kx_itemOfX (hl : l.stackTraces = false) {v : Value} {so u : Nat} (hk : so < 5) (hv : RVs δ dy v so (.inr u)) (i : Int32) : CX l yX0_itemOf cX0_itemOf 4 (some .int) 9 10290 3 1010 D vwCl (kT δ) A aK aV (kW K δ sr ρ dy) [.ref (K 0), v, .int (nI so), .int i] g (fun _ _ => False) (HX D A K δ sr ρ dy g u 0) := by
  have hv1 : lv_args 0 [.ref (K 0), v, .int (nI so), .int i] = [(0, .ref (K 0)), (1, v), (2, .int (nI so)), (3, .int i)] ∧ (lg_sl [.ref (K 0), v, .int (nI so), .int i]).length ≤ 4 := by
    rcases hv.v with rfl | ⟨x, rfl⟩ <;> exact ⟨rfl, Nat.le_of_ble_eq_true rfl⟩
  refine cx_intro (own := RX0) (lv0 := [(0, .ref (K 0)), (1, v), (2, .int (nI so)), (3, .int i)]) (by decide) rfl hv1.2 hv1.1 ?_
  intro p e s m args below meth c Y hr hmn htab
  have X := Y.x
  refine tw_aload_n X dX0_itemOf_0 rfl 0 rfl ?_
  refine tw_iload_n X dX0_itemOf_1 rfl 3 rfl ?_
  refine tw_iconst (v := 0) X dX0_itemOf_2 rfl ?_
  refine tw_aload_nV X hv.v dX0_itemOf_3 rfl 1 rfl ?_
  refine tw_iload_n X dX0_itemOf_4 rfl 2 rfl ?_
  refine tx_callS (n := 2) (As := [v, .int (nI so)]) (st := [.int 0, .int i, .ref (K 0)]) Y (kx_manyOf hl hk hv) kGX0_548 kI_X0_manyOf ⟨Nat.le_of_ble_eq_true rfl, Nat.le_of_ble_eq_true rfl⟩ ⟨Nat.le_of_ble_eq_true rfl, Nat.le_of_ble_eq_true rfl⟩ rfl rfl (Nat.le_of_ble_eq_true rfl) dX0_itemOf_5 (fun E x t h => tx_out X htab (Nat.le_refl _) (Nat.le_refl _) (fun t2 e2 => ?_)) (fun v t h => ?_)
  · obtain ⟨w, h1, h2⟩ := h
    cases h1
    rcases h2 with ⟨h3, h4, b⟩ | ⟨h3, h4, b⟩ | ⟨h3, h4, h5, b⟩
    · exact Or.inl ⟨h3, h4, by rw [e2]; exact b.1, b.2⟩
    · exact Or.inr (Or.inl ⟨h3, h4, by rw [e2]; exact b.1, b.2⟩)
    · exact Or.inr (Or.inr ⟨h3, h4, h5, by rw [e2]; exact b.1, b.2⟩)
  · obtain ⟨N', h1, _⟩ := h
    cases h1
end KHC
