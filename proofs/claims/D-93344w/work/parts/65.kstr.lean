/-! the strings' methods that are reached: length, charAt -/
set_option maxRecDepth 100000
theorem sByt_len : ∀ i, i < 21 → (sByt.getD i []).length = sLen.getD i 0 ∧ sLen.getD i 0 ≤ 6 := by decide +kernel
theorem sByt_b : ∀ i, i < 21 → ∀ k, k < 6 → (((sByt.getD i []).getD k 0) &&& 255) = (sByt.getD i []).getD k 0 ∧ ((((sByt.getD i []).getD k 0)).toUInt32 % 65536).toInt32 = (sByt.getD i []).getD k 0 ∧ narrow .char (.int ((sByt.getD i []).getD k 0)) = .int ((sByt.getD i []).getD k 0) := by decide +kernel
section KST
variable {σ : Type} {l : Launch} {D : va_G} {cl : List vw_C} {A : Nat → Prop} {Wd : σ → va_W} {g : σ} {tys : List (ClassId × FieldType)} {aK aV : Nat → Nat}
variable {p : Program} {e : Env} {R : Room} {s : State} {m : MethodId} {args : Array Value} {below : List Frame} {meth : Method} {c : Code} {Q : State → Prop} {nL ce sl : Nat} {pc : Nat} {lv : List (Nat × Value)} {st : List Value} {cc : ByteArray} {own : String}
/-- a field of a constant -/
theorem ts_get (Y : CY p c cc nL s args RJ5 m meth D cl tys A aK aV) {n d : String} {index q : Nat} {v : Value} (hE : va_OF "java/lang/String" n d v q A s s.heap) (hlink : Cond.fieldLink RJ5 index "java/lang/String" n d ∈ lw_all) (hdg : decode cc pc = .ok (.getfield index, 3)) (kk : TW p l e R s m args below meth c Q D cl A Wd nL ce sl g (pc + 3) lv (v :: st)) : TW p l e R s m args below meth c Q D cl A Wd nL ce sl g pc lv (.ref q :: st) :=
  fun H locs ls hl hP hD hS => vk_getf Y.x.hx Y.x.hb hE hS Y.x.hown (Y.x.hts _ hlink) (fun _ h => h) hdg (kk H locs ls hl hP hD hS)
theorem ts_gets (Y : CY p c cc nL s args own m meth D cl tys A aK aV) {C n d : String} {index : Nat} {v : Value} (hZ : va_Z C n d v A s s.heap) (hlink : Cond.fieldLink own index C n d ∈ lw_all) (hdg : decode cc pc = .ok (.getstatic index, 3)) (kk : TW p l e R s m args below meth c Q D cl A Wd nL ce sl g (pc + 3) lv (v :: st)) : TW p l e R s m args below meth c Q D cl A Wd nL ce sl g pc lv st :=
  fun H locs ls hl hP hD hS => va_gets Y.x.hx Y.x.hb hZ hS Y.x.hown (Y.x.hts _ hlink) (fun _ h => h) hdg (kk H locs ls hl hP hD hS)
theorem ts_len (Y : CY p c cc nL s args own m meth D cl tys A aK aV) {ty : FieldType} {t N : Nat} {f : Nat → Value} (hT : va_T ty t N f A s s.heap) (hdg : decode cc pc = .ok (.arraylength, 1)) (kk : TW p l e R s m args below meth c Q D cl A Wd nL ce sl g (pc + 1) lv (.int (nI N) :: st)) : TW p l e R s m args below meth c Q D cl A Wd nL ce sl g pc lv (.ref t :: st) :=
  fun H locs ls hl hP hD hS => va_tlen Y.x.hx Y.x.hb hT hS rfl hdg (kk H locs ls hl hP hD hS)
theorem ts_b (Y : CY p c cc nL s args own m meth D cl tys A aK aV) {t N k : Nat} {f : Nat → Value} {v : Value} (hT : va_T .byte t N f A s s.heap) (hk : k < N) (hN : N < 2 ^ 31) (hv : f k = v) (hdg : decode cc pc = .ok (.baload, 1)) (kk : TW p l e R s m args below meth c Q D cl A Wd nL ce sl g (pc + 1) lv (v :: st)) : TW p l e R s m args below meth c Q D cl A Wd nL ce sl g pc lv (.int (nI k) :: .ref t :: st) :=
  fun H locs ls hl hP hD hS => va_tb Y.x.hx Y.x.hb hT hS (vp_in_nI hk hN) (by rw [nI_clamp (by omega)]; exact hv) hdg (kk H locs ls hl hP hD hS)
theorem ts_rv (Y : CY p c cc nL s args own m meth D cl tys A aK aV) {i : Nat} (hi : i < 21) : ∀ (H : Heap) (locs : List Loc), va_S A s.heap H locs → ∃ cell : Cell, H[aK i]? = some cell ∧ cell.vm.isStatics = false ∧ s.vm.findClass RJ5 = some cell.cls := fun H locs hS => vk_recv Y.n.1 hi hS
theorem kS_coder {i : Nat} (hi : i < 21) : CX l yJ5_coder cJ5_coder 1 (some .byte) 0 0 0 0 D cl tys A aK aV Wd [.ref (aK i)] g (fun v t => v = some (.int 0) ∧ BW D cl A Wd g t) (fun _ _ _ => False) := by
  refine cx_intro (own := RJ5) (lv0 := [(0, .ref (aK i))]) (by decide) rfl (Nat.le_of_ble_eq_true rfl) rfl ?_
  intro p e s m args below meth c Y hr hmn htab
  refine ts_gets Y Y.n.2.2.1 q755 dJ5_coder_0 ?_
  refine tw_if_eq (a := ()) (b := ()) (z := ()) (tgt := 13) Y.x dJ5_coder_3 rfl (ite_self _) (fun q _ => absurd q (by decide)) (fun _ _ => ?_)
  refine tw_aload_n Y.x dJ5_coder_6 rfl 0 rfl ?_
  refine ts_get Y (Y.n.1.1 i hi).2.1 q2225 dJ5_coder_7 ?_
  refine tw_goto (tgt := 14) Y.x dJ5_coder_10 rfl ?_
  exact tx_nret Y.x hr rfl (Nat.le_refl _) (Nat.le_refl _) (fun t b => ⟨rfl, b⟩) dJ5_coder_14
theorem kS_isLatin1 {i : Nat} (hi : i < 21) : CX l yJ5_isLatin1 cJ5_isLatin1 1 (some .boolean) 0 0 0 0 D cl tys A aK aV Wd [.ref (aK i)] g (fun v t => v = some (.int 1) ∧ BW D cl A Wd g t) (fun _ _ _ => False) := by
  refine cx_intro (own := RJ5) (lv0 := [(0, .ref (aK i))]) (by decide) rfl (Nat.le_of_ble_eq_true rfl) rfl ?_
  intro p e s m args below meth c Y hr hmn htab
  refine ts_gets Y Y.n.2.2.1 q755 dJ5_isLatin1_0 ?_
  refine tw_if_eq (a := ()) (b := ()) (z := ()) (tgt := 17) Y.x dJ5_isLatin1_3 rfl (ite_self _) (fun q _ => absurd q (by decide)) (fun _ _ => ?_)
  refine tw_aload_n Y.x dJ5_isLatin1_6 rfl 0 rfl ?_
  refine ts_get Y (Y.n.1.1 i hi).2.1 q2225 dJ5_isLatin1_7 ?_
  refine tw_if_ne (a := ()) (b := ()) (z := ()) (tgt := 17) Y.x dJ5_isLatin1_10 rfl (ite_self _) (fun _ _ => ?_) (fun q _ => absurd rfl q)
  refine tw_iconst (v := 1) Y.x dJ5_isLatin1_13 rfl ?_
  refine tw_goto (tgt := 18) Y.x dJ5_isLatin1_14 rfl ?_
  exact tx_nret Y.x hr rfl (Nat.le_refl _) (Nat.le_refl _) (fun t b => ⟨rfl, b⟩) dJ5_isLatin1_18
theorem kS_length {i : Nat} (hi : i < 21) : CX l yJ5_length cJ5_length 1 (some .int) 1 20 0 0 D cl tys A aK aV Wd [.ref (aK i)] g (fun v t => v = some (.int (nI (sLen.getD i 0))) ∧ BW D cl A Wd g t) (fun _ _ _ => False) := by
  refine cx_intro (own := RJ5) (lv0 := [(0, .ref (aK i))]) (by decide) rfl (Nat.le_of_ble_eq_true rfl) rfl ?_
  intro p e s m args below meth c Y hr hmn htab
  refine tw_aload_n Y.x dJ5_length_0 rfl 0 rfl ?_
  refine ts_get Y (Y.n.1.1 i hi).2.2.1 q2224 dJ5_length_1 ?_
  refine ts_len Y (Y.n.1.1 i hi).2.2.2 dJ5_length_4 ?_
  refine tw_aload_n Y.x dJ5_length_5 rfl 0 rfl ?_
  refine tx_callG (n := 0) (C := RJ5) (b := aK i) (As := []) (st := [.int (nI (sLen.getD i 0))]) Y (kS_coder hi) (lw_V q751 q752 q753 q134 q754) ⟨rfl, by decide +kernel⟩ ⟨Nat.le_of_ble_eq_true rfl, Nat.le_of_ble_eq_true rfl⟩ ⟨Nat.zero_le _, Nat.zero_le _⟩ (ts_rv Y hi) rfl rfl (Nat.le_of_ble_eq_true rfl) dJ5_length_6 (fun E x t h => h.elim) (fun v t h => ?_)
  obtain ⟨rfl, hb⟩ := h
  refine TW.at ?_ hb
  refine tw_ishr Y.x dJ5_length_9 ?_
  have e : nI (sLen.getD i 0) >>> ((0 : Int32) &&& 31) = nI (sLen.getD i 0) := by
    have : ∀ i, i < 21 → nI (sLen.getD i 0) >>> ((0 : Int32) &&& 31) = nI (sLen.getD i 0) := by decide +kernel
    exact this i hi
  rw [e]
  exact tx_iret Y.x hr (Nat.le_refl _) (Nat.le_refl _) (fun t b => ⟨rfl, b⟩) dJ5_length_10
theorem kS_checkP {k n : Nat} (hk : k < n) (hn : n < 2 ^ 31) {r : Value} (hv : r = .null ∨ ∃ t, r = .ref t) : CX l yJ7_checkIndex cJ7_checkIndex 3 (some .int) 0 0 0 0 D cl tys A aK aV Wd [.int (nI k), .int (nI n), r] g (fun v t => v = some (.int (nI k)) ∧ BW D cl A Wd g t) (fun _ _ _ => False) := by
  rcases hv with rfl | ⟨t0, rfl⟩
  · refine cx_intro (own := RJ7) (lv0 := [(0, .int (nI k)), (1, .int (nI n)), (2, .null)]) (by decide) rfl (Nat.le_of_ble_eq_true rfl) rfl ?_
    intro p e s m args below meth c Y hr hmn htab
    refine tw_iload_n Y.x dJ7_checkIndex_0 rfl 0 rfl ?_
    refine tw_if_lt (a := ()) (b := ()) (z := ()) (tgt := 9) Y.x dJ7_checkIndex_1 rfl (ite_self _) (fun q _ => absurd q (nI_pos (by omega))) (fun _ _ => ?_)
    refine tw_iload_n Y.x dJ7_checkIndex_4 rfl 0 rfl ?_
    refine tw_iload_n Y.x dJ7_checkIndex_5 rfl 1 rfl ?_
    refine tw_icmp_lt (a := ()) (b := ()) (z := ()) (tgt := 16) Y.x dJ7_checkIndex_6 rfl (ite_self _) (fun _ _ => ?_) (fun q _ => absurd (nI_lt hk hn) q)
    refine tw_iload_n Y.x dJ7_checkIndex_16 rfl 0 rfl ?_
    exact tx_iret Y.x hr (Nat.le_refl _) (Nat.le_refl _) (fun t b => ⟨rfl, b⟩) dJ7_checkIndex_17
  · refine cx_intro (own := RJ7) (lv0 := [(0, .int (nI k)), (1, .int (nI n)), (2, .ref t0)]) (by decide) rfl (Nat.le_of_ble_eq_true rfl) rfl ?_
    intro p e s m args below meth c Y hr hmn htab
    refine tw_iload_n Y.x dJ7_checkIndex_0 rfl 0 rfl ?_
    refine tw_if_lt (a := ()) (b := ()) (z := ()) (tgt := 9) Y.x dJ7_checkIndex_1 rfl (ite_self _) (fun q _ => absurd q (nI_pos (by omega))) (fun _ _ => ?_)
    refine tw_iload_n Y.x dJ7_checkIndex_4 rfl 0 rfl ?_
    refine tw_iload_n Y.x dJ7_checkIndex_5 rfl 1 rfl ?_
    refine tw_icmp_lt (a := ()) (b := ()) (z := ()) (tgt := 16) Y.x dJ7_checkIndex_6 rfl (ite_self _) (fun _ _ => ?_) (fun q _ => absurd (nI_lt hk hn) q)
    refine tw_iload_n Y.x dJ7_checkIndex_16 rfl 0 rfl ?_
    exact tx_iret Y.x hr (Nat.le_refl _) (Nat.le_refl _) (fun t b => ⟨rfl, b⟩) dJ7_checkIndex_17
theorem kS_check {k n : Nat} (hk : k < n) (hn : n < 2 ^ 31) : CX l yJ5_checkIndex cJ5_checkIndex 2 none 1 22 0 0 D cl tys A aK aV Wd [.int (nI k), .int (nI n)] g (fun v t => v = none ∧ BW D cl A Wd g t) (fun _ _ _ => False) := by
  refine cx_intro (own := RJ5) (lv0 := [(0, .int (nI k)), (1, .int (nI n))]) (by decide) rfl (Nat.le_of_ble_eq_true rfl) rfl ?_
  intro p e s m args below meth c Y hr hmn htab
  refine tw_iload_n Y.x dJ5_checkIndex_0 rfl 0 rfl ?_
  refine tw_iload_n Y.x dJ5_checkIndex_1 rfl 1 rfl ?_
  have go : ∀ r : Value, (r = .null ∨ ∃ t, r = .ref t) → va_Z "jdk/internal/util/Preconditions" "SIOOBE_FORMATTER" "Ljava/util/function/BiFunction;" r A s s.heap → TW p l e (romX 1 22 0 0) s m args below meth c (vx_MQ below (QO A (fun v t => v = none ∧ BW D cl A Wd g t)) (XO A (fun _ _ _ => False)) args s 0 0 A) D cl A Wd 2 0 0 g 2 [(0, .int (nI k)), (1, .int (nI n))] [.int (nI n), .int (nI k)] := by
    intro r hv hZ
    refine ts_gets Y hZ q771 dJ5_checkIndex_2 ?_
    refine tx_callS (n := 3) (As := [.int (nI k), .int (nI n), r]) (st := []) Y (kS_checkP hk hn hv) (lw_S q773 q774 q136 q775) (by decide +kernel) ⟨Nat.le_of_ble_eq_true rfl, Nat.le_of_ble_eq_true rfl⟩ ⟨Nat.zero_le _, Nat.zero_le _⟩ rfl rfl (Nat.zero_le _) dJ5_checkIndex_5 (fun E x t h => h.elim) (fun v t h => ?_)
    obtain ⟨rfl, hb⟩ := h
    refine TW.at ?_ hb
    refine tw_pop Y.x dJ5_checkIndex_8 rfl ?_
    exact tx_vret Y.x hr (Nat.le_refl _) (Nat.le_refl _) (fun t b => ⟨rfl, b⟩) dJ5_checkIndex_9
  rcases Y.n.2.2.2.1 with h | ⟨t0, h⟩
  · exact go _ (Or.inl rfl) h
  · exact go _ (Or.inr ⟨t0, rfl⟩) h
theorem kS_latC {i k : Nat} (hi : i < 21) (hk : k < sLen.getD i 0) : CX l yJ6_charAt cJ6_charAt 2 (some .char) 2 43 0 0 D cl tys A aK aV Wd [.ref (aV i), .int (nI k)] g (fun v t => v = some (.int ((sByt.getD i []).getD k 0)) ∧ BW D cl A Wd g t) (fun _ _ _ => False) := by
  refine cx_intro (own := RJ6) (lv0 := [(0, .ref (aV i)), (1, .int (nI k))]) (by decide) rfl (Nat.le_of_ble_eq_true rfl) rfl ?_
  intro p e s m args below meth c Y hr hmn htab
  have h6 := (sByt_len i hi).2
  obtain ⟨b1, b2, b3⟩ := sByt_b i hi k (by omega)
  refine tw_iload_n Y.x dJ6_charAt_0 rfl 1 rfl ?_
  refine tw_aload_n Y.x dJ6_charAt_1 rfl 0 rfl ?_
  refine ts_len Y (Y.n.1.1 i hi).2.2.2 dJ6_charAt_2 ?_
  refine tx_callS (n := 2) (As := [.int (nI k), .int (nI (sLen.getD i 0))]) (st := []) Y (kS_check hk (by omega)) (lw_S q768 q769 q134 q770) (by decide +kernel) ⟨Nat.le_of_ble_eq_true rfl, Nat.le_of_ble_eq_true rfl⟩ ⟨Nat.zero_le _, Nat.zero_le _⟩ rfl rfl (Nat.zero_le _) dJ6_charAt_3 (fun E x t h => h.elim) (fun v t h => ?_)
  obtain ⟨rfl, hb⟩ := h
  refine TW.at ?_ hb
  refine tw_aload_n Y.x dJ6_charAt_6 rfl 0 rfl ?_
  refine tw_iload_n Y.x dJ6_charAt_7 rfl 1 rfl ?_
  refine ts_b Y (Y.n.1.1 i hi).2.2.2 hk (by omega) rfl dJ6_charAt_8 ?_
  refine tw_sipush (v := 255) Y.x dJ6_charAt_9 rfl ?_
  refine tw_iand Y.x dJ6_charAt_12 ?_
  refine tw_i2c Y.x dJ6_charAt_13 ?_
  rw [b1, b2]
  exact tx_nret Y.x hr b3 (Nat.le_refl _) (Nat.le_refl _) (fun t b => ⟨rfl, b⟩) dJ6_charAt_14
theorem kS_charAt {i k : Nat} (hi : i < 21) (hk : k < sLen.getD i 0) : CX l yJ5_charAt cJ5_charAt 2 (some .char) 3 66 0 0 D cl tys A aK aV Wd [.ref (aK i), .int (nI k)] g (fun v t => v = some (.int ((sByt.getD i []).getD k 0)) ∧ BW D cl A Wd g t) (fun _ _ _ => False) := by
  refine cx_intro (own := RJ5) (lv0 := [(0, .ref (aK i)), (1, .int (nI k))]) (by decide) rfl (Nat.le_of_ble_eq_true rfl) rfl ?_
  intro p e s m args below meth c Y hr hmn htab
  have h6 := (sByt_len i hi).2
  obtain ⟨b1, b2, b3⟩ := sByt_b i hi k (by omega)
  refine tw_aload_n Y.x dJ5_charAt_0 rfl 0 rfl ?_
  refine tx_callG (n := 0) (C := RJ5) (b := aK i) (As := []) (st := []) Y (kS_isLatin1 hi) (lw_V q761 q762 q763 q134 q764) ⟨rfl, by decide +kernel⟩ ⟨Nat.le_of_ble_eq_true rfl, Nat.le_of_ble_eq_true rfl⟩ ⟨Nat.zero_le _, Nat.zero_le _⟩ (ts_rv Y hi) rfl rfl (Nat.zero_le _) dJ5_charAt_1 (fun E x t h => h.elim) (fun v t h => ?_)
  obtain ⟨rfl, hb⟩ := h
  refine TW.at ?_ hb
  refine tw_if_eq (a := ()) (b := ()) (z := ()) (tgt := 16) Y.x dJ5_charAt_4 rfl (ite_self _) (fun q _ => absurd q (by decide)) (fun _ _ => ?_)
  refine tw_aload_n Y.x dJ5_charAt_7 rfl 0 rfl ?_
  refine ts_get Y (Y.n.1.1 i hi).2.2.1 q2224 dJ5_charAt_8 ?_
  refine tw_iload_n Y.x dJ5_charAt_11 rfl 1 rfl ?_
  refine tx_callS (n := 2) (As := [.ref (aV i), .int (nI k)]) (st := []) Y (kS_latC hi hk) (lw_S q765 q766 q135 q767) (by decide +kernel) ⟨Nat.le_of_ble_eq_true rfl, Nat.le_of_ble_eq_true rfl⟩ ⟨Nat.zero_le _, Nat.zero_le _⟩ rfl rfl (Nat.zero_le _) dJ5_charAt_12 (fun E x t h => h.elim) (fun v t h => ?_)
  obtain ⟨rfl, hb⟩ := h
  refine TW.at ?_ hb
  exact tx_nret Y.x hr b3 (Nat.le_refl _) (Nat.le_refl _) (fun t b => ⟨rfl, b⟩) dJ5_charAt_15
end KST
