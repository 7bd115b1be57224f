/-! the component's parser: figures, names of a row, values -/
set_option maxRecDepth 100000
theorem sb_dig {b : Nat} (h : isDb b = true) : sb b = nI (b - 48) + 48 ∧ b < 256 := by
  have h2 : 48 ≤ b ∧ b ≤ 57 := by
    unfold isDb at h
    simpa using h
  have hb : b < 256 := by omega
  refine ⟨?_, hb⟩
  rw [(sb_eq hb (c := b) (by omega)).mpr rfl, show (48 : Int32) = nI 48 from rfl, nI_add]
  congr 1
  omega
theorem fg_step {v b : Nat} (h : isDb b = true) : (10 : Int32) * nI v + sb b - 48 = nI (10 * v + (b - 48)) := by
  rw [(sb_dig h).1, show (10 : Int32) = nI 10 from rfl, pk_mul, ← Int32.add_assoc, nI_add, Int32.add_sub_cancel]
theorem wrd_lt {n a e i : Nat} {tp : Nat → Nat} (hi : i < 21) (h : wrd tp a e i = true) : a < e := by
  have := (sW_b i hi).1
  have h1 : 1 ≤ sLen.getD i 0 := (by decide +kernel : ∀ i, i < 21 → 1 ≤ sLen.getD i 0) i hi
  unfold wrd at h
  rw [Bool.and_eq_true] at h
  have := of_decide_eq_true h.1
  omega
theorem nmK_lt {tp : Nat → Nat} {a e b : Nat} : ∀ {mm k : Nat}, b + mm ≤ 21 → nmK tp a e b mm = some k → k < mm ∧ a < e
  | 0, k, _, h => by cases h
  | mm + 1, k, hb, h => by
    unfold nmK at h
    by_cases q : wrd tp a e (b + mm) = true
    · rw [if_pos q] at h
      cases h
      exact ⟨Nat.lt_succ_self _, wrd_lt (n := 0) (by omega) q⟩
    · rw [if_neg q] at h
      obtain ⟨h1, h2⟩ := nmK_lt (by omega) h
      exact ⟨by omega, h2⟩
section KP2
variable {p : Program} {l : Launch} {e0 : Env} {R : Room} {s : State} {m : MethodId} {args : Array Value} {below : List Frame} {meth : Method} {c : Code} {Q : State → Prop} {D : va_G} {A : Nat → Prop} {nL ce sl : Nat} {g : St} {pc : Nat} {lv : List (Nat × Value)} {st : List Value} {cc : ByteArray} {K : Nat → Nat} {δ : Nat → ClassId} {sr ρ : Rf} {dy : va_W} {aK aV : Nat → Nat} {n a e : Nat} {tp : Nat → Nat}
theorem kx_figure (t : PT g n tp) (h : TK n tp a e) : CX l yX0_figure cX0_figure 4 (some .int) 2 50 0 0 D vwCl (kT δ) A aK aV (kW K δ sr ρ dy) [.ref (K 0)] (pS g a e) (fun v t => ∃ r, pF n tp a e = .inr r ∧ v = some (.int (nI r.1)) ∧ BW D vwCl A (kW K δ sr ρ dy) (pS g r.2.1 r.2.2) t) (fun q E t => pF n tp a e = .inl a ∧ FX D A K δ sr ρ dy g a q E t) := by
  refine cx_intro (own := RX0) (lv0 := [(0, .ref (K 0))]) (by decide) rfl (Nat.le_of_ble_eq_true rfl) rfl ?_
  intro p e1 s m args below meth c Y hr hmn htab
  have X := Y.x
  have hb := h.bd
  have hn := t.1
  refine tw_aload_n X dX0_figure_0 rfl 0 rfl ?_
  refine kgX0_222_0 X dX0_figure_1 ?_
  refine tw_aload_n X dX0_figure_4 rfl 0 rfl ?_
  refine kgX0_225_0 X dX0_figure_5 ?_
  refine tw_isub X dX0_figure_8 ?_
  rw [pS_a, pS_e, pk_sub hb.1]
  refine tw_istore_n (lv' := [(1, .int (nI (e - a))), (0, .ref (K 0))]) X dX0_figure_9 rfl (by decide) rfl ?_
  refine tw_iload_n X dX0_figure_10 rfl 0 rfl ?_
  refine tw_iconst (v := 1) X dX0_figure_11 rfl ?_
  have flt : pF n tp a e = .inl a → TW p l e1 (romX 2 50 0 0) s m args below meth c (vx_MQ below (QO A (fun v t => ∃ r, pF n tp a e = .inr r ∧ v = some (.int (nI r.1)) ∧ BW D vwCl A (kW K δ sr ρ dy) (pS g r.2.1 r.2.2) t)) (XO A (fun q E t => pF n tp a e = .inl a ∧ FX D A K δ sr ρ dy g a q E t)) args s 0 0 A) D vwCl A (kW K δ sr ρ dy) 4 0 0 (pS g a e) 35 [(1, .int (nI (e - a))), (0, .ref (K 0))] [] := by
    intro hf
    refine tw_aload_n X dX0_figure_35 rfl 1 rfl ?_
    refine tp_fault Y ⟨Nat.le_of_ble_eq_true rfl, Nat.le_of_ble_eq_true rfl⟩ ⟨Nat.zero_le _, Nat.zero_le _⟩ (d2 := dX0_figure_36) dX0_figure_39 (fun t b => ?_)
    exact tx_out X htab (Nat.le_refl _) (Nat.le_refl _) (fun t2 e2 => ⟨hf, FX.of ⟨by rw [e2]; exact b.1, b.2⟩⟩)
  have no : ¬ (1 ≤ e - a ∧ e - a ≤ 4 ∧ isDb (tp a) = true) → pF n tp a e = .inl a := fun z => by
    unfold pF
    rw [if_neg z]
  refine tw_icmp_lt (a := ()) (b := ()) (z := ()) (tgt := 35) X dX0_figure_12 rfl (ite_self _) (fun q _ => ?_) (fun q _ => ?_)
  · rw [show (1 : Int32) = nI 1 from rfl, nI_ltI (by omega) (by omega)] at q
    exact flt (no (fun z => by omega))
  · rw [show (1 : Int32) = nI 1 from rfl, nI_ltI (by omega) (by omega)] at q
    refine tw_iload_n X dX0_figure_15 rfl 0 rfl ?_
    refine tw_iconst (v := 4) X dX0_figure_16 rfl ?_
    refine tw_icmp_gt (a := ()) (b := ()) (z := ()) (tgt := 35) X dX0_figure_17 rfl (ite_self _) (fun q2 _ => ?_) (fun q2 _ => ?_)
    · rw [show (4 : Int32) = nI 4 from rfl, nI_ltI (by omega) (by omega)] at q2
      exact flt (no (fun z => by omega))
    · rw [show (4 : Int32) = nI 4 from rfl, nI_ltI (by omega) (by omega)] at q2
      refine tw_aload_n X dX0_figure_20 rfl 1 rfl ?_
      refine kgX0_103_0 X dX0_figure_21 ?_
      refine tw_aload_n X dX0_figure_24 rfl 1 rfl ?_
      refine kgX0_225_0 X dX0_figure_25 ?_
      have hba := t.2.2 a (by omega)
      refine klX0_11 (x := sb (tp a)) X (by rw [pS_a, rd_n (by omega) (by decide), pS_o (by decide), hba.2]) dX0_figure_28 ?_
      refine tw_callSz (As := [.int (sb (tp a))]) (st := []) X (kC_isDigit (sb (tp a))) kGX0_231 kI_X0_isDigit ⟨Nat.le_of_ble_eq_true rfl, Nat.le_of_ble_eq_true rfl⟩ ⟨Nat.zero_le _, Nat.zero_le _⟩ rfl rfl (Nat.zero_le _) dX0_figure_29 (fun _ => ?_)
      rw [sb_D _ hba.1]
      refine tw_if_ne (a := ()) (b := ()) (z := ()) (tgt := 40) X dX0_figure_32 rfl (ite_self _) (fun q3 _ => ?_) (fun q3 _ => ?_)
      · have hw := zI_ne.mp q3
        exact flt (no (fun z => by rw [hw] at z; cases z.2.2))
      · have hd : isDb (tp a) = true := by
          cases z : isDb (tp a)
          · rw [z] at q3
            exact absurd rfl q3
          · rfl
        have hF : pF n tp a e = .inr (fgv tp (e - a) a 0, tok n tp e) := by
          unfold pF
          rw [if_pos ⟨by omega, by omega, hd⟩]
        refine tw_iconst (v := 0) X dX0_figure_40 rfl ?_
        refine tw_istore_n (lv' := [(2, .int (nI 0)), (1, .int (nI (e - a))), (0, .ref (K 0))]) X dX0_figure_41 rfl (by decide) rfl ?_
        refine tw_aload_n X dX0_figure_42 rfl 2 rfl ?_
        refine kgX0_225_0 X dX0_figure_43 ?_
        rw [pS_a]
        refine tw_istore_n (lv' := [(3, .int (nI a)), (2, .int (nI 0)), (1, .int (nI (e - a))), (0, .ref (K 0))]) X dX0_figure_46 rfl (by decide) rfl ?_
        have loop : ∀ (mm k v : Nat), k + mm = e → a ≤ k → fgv tp mm k v = fgv tp (e - a) a 0 → ∀ lv, lv = [(3, Value.int (nI k)), (2, .int (nI v)), (1, .int (nI (e - a))), (0, .ref (K 0))] ∨ lv = [(3, Value.int (nI k)), (2, .int (nI v)), (1, .int (nI (e - a))), (0, .ref (K 0))] → TW p l e1 (romX 2 50 0 0) s m args below meth c (vx_MQ below (QO A (fun v t => ∃ r, pF n tp a e = .inr r ∧ v = some (.int (nI r.1)) ∧ BW D vwCl A (kW K δ sr ρ dy) (pS g r.2.1 r.2.2) t)) (XO A (fun q E t => pF n tp a e = .inl a ∧ FX D A K δ sr ρ dy g a q E t)) args s 0 0 A) D vwCl A (kW K δ sr ρ dy) 4 0 0 (pS g a e) 47 lv [] := by
          intro mm
          induction mm with
          | zero =>
            intro k v hk hak hv lv hlv
            have hlv : lv = _ := hlv.elim id id
            subst hlv
            have ek : k = e := by omega
            subst ek
            refine tw_iload_n X dX0_figure_47 rfl 0 rfl ?_
            refine tw_aload_n X dX0_figure_48 rfl 3 rfl ?_
            refine kgX0_222_0 X dX0_figure_49 ?_
            rw [pS_e]
            refine tw_icmp_ge (a := ()) (b := ()) (z := ()) (tgt := 76) X dX0_figure_52 rfl (ite_self _) (fun _ _ => ?_) (fun z _ => absurd (nI_le (by omega) (by omega)) z)
            refine tw_aload_n X dX0_figure_76 rfl 3 rfl ?_
            refine tp_next X t h.bd.2 ⟨Nat.le_of_ble_eq_true rfl, Nat.le_of_ble_eq_true rfl⟩ ⟨Nat.zero_le _, Nat.zero_le _⟩ (Nat.zero_le _) dX0_figure_77 ?_
            refine tw_iload_n X dX0_figure_80 rfl 1 rfl ?_
            exact tx_iret X hr (Nat.le_refl _) (Nat.le_refl _) (fun t b => ⟨_, hF, by rw [← hv]; rfl, b⟩) dX0_figure_81
          | succ mm ih =>
            intro k v hk hak hv lv hlv
            have hlv : lv = _ := hlv.elim id id
            subst hlv
            have hbk := t.2.2 k (by omega)
            have hdk := h.dig hd k hak (by omega)
            refine tw_iload_n X dX0_figure_47 rfl 0 rfl ?_
            refine tw_aload_n X dX0_figure_48 rfl 3 rfl ?_
            refine kgX0_222_0 X dX0_figure_49 ?_
            rw [pS_e]
            refine tw_icmp_ge (a := ()) (b := ()) (z := ()) (tgt := 76) X dX0_figure_52 rfl (ite_self _) (fun z _ => absurd z (nI_ge (by omega) (by omega))) (fun _ _ => ?_)
            refine tw_bipush (v := 10) X dX0_figure_55 rfl ?_
            refine tw_iload_n X dX0_figure_57 rfl 1 rfl ?_
            refine tw_imul X dX0_figure_58 ?_
            refine tw_aload_n X dX0_figure_59 rfl 3 rfl ?_
            refine kgX0_103_0 X dX0_figure_60 ?_
            refine tw_iload_n X dX0_figure_63 rfl 0 rfl ?_
            refine klX0_11 (x := sb (tp k)) X (by rw [rd_n (by omega) (by decide), pS_o (by decide), hbk.2]) dX0_figure_64 ?_
            refine tw_iadd X dX0_figure_65 ?_
            refine tw_bipush (v := 48) X dX0_figure_66 rfl ?_
            refine tw_isub X dX0_figure_68 ?_
            rw [fg_step hdk]
            refine tw_istore_n (lv' := [(2, .int (nI (10 * v + (tp k - 48)))), (3, .int (nI k)), (1, .int (nI (e - a))), (0, .ref (K 0))]) X dX0_figure_69 rfl (by decide) rfl ?_
            refine tw_iinc (q := 1) (v := nI (k + 1)) (lv' := [(3, .int (nI (k + 1))), (2, .int (nI (10 * v + (tp k - 48)))), (1, .int (nI (e - a))), (0, .ref (K 0))]) X dX0_figure_70 rfl (nI_1 k) (by decide) rfl ?_
            refine tw_goto (tgt := 47) X dX0_figure_73 rfl ?_
            exact ih (k + 1) (10 * v + (tp k - 48)) (by omega) (by omega) (by rw [← hv]; rfl) _ (Or.inl rfl)
        exact loop (e - a) a 0 (by omega) (by omega) rfl _ (Or.inl rfl)
/-- which of a row of names stands here -/
def NmR (D : va_G) (A : Nat → Prop) (K : Nat → Nat) (δ : Nat → ClassId) (sr ρ : Rf) (dy : va_W) (g : St) (n : Nat) (tp : Nat → Nat) (a e : Nat) (o : Option Nat) (v : Option Value) (t : State) : Prop := Option.elim o (v = some (.int (-1)) ∧ BW D vwCl A (kW K δ sr ρ dy) (pS g a e) t) (fun k => v = some (.int (nI k)) ∧ BW D vwCl A (kW K δ sr ρ dy) (pS g (tok n tp e).1 (tok n tp e).2) t)
theorem kx_nameOf (t : PT g n tp) (h : TK n tp a e) {q0 a0 b mm : Nat} {f : Nat → Option Nat} (hm : mm ≤ 6) (hbm : b + mm ≤ 14) (h0 : (kW K δ sr ρ dy (pS g a e))[q0]? = some (a0, .inl (δ 5, mm, .inr (.inr (.inr (.inr f)))))) (hf : ∀ i, i < mm → f i = some (aK (b + i))) : CX l yX0_nameOf cX0_nameOf 3 (some .int) 5 115 0 0 D vwCl (kT δ) A aK aV (kW K δ sr ρ dy) [.ref (K 0), .ref a0] (pS g a e) (NmR D A K δ sr ρ dy g n tp a e (nmK tp a e b mm)) (fun _ _ _ => False) := by
  refine cx_intro (own := RX0) (lv0 := [(0, .ref (K 0)), (1, .ref a0)]) (by decide) rfl (Nat.le_of_ble_eq_true rfl) rfl ?_
  intro p e1 s m args below meth c Y hr hmn htab
  have X := Y.x
  refine tw_aload_n X dX0_nameOf_0 rfl 1 rfl ?_
  refine tw_alen (v := nI mm) X q0 5 h0 rfl rfl dX0_nameOf_1 ?_
  refine tw_iconst (v := 1) X dX0_nameOf_2 rfl ?_
  refine tw_isub X dX0_nameOf_3 ?_
  refine tw_istore_n (lv' := [(2, .int (nI mm - 1)), (0, .ref (K 0)), (1, .ref a0)]) X dX0_nameOf_4 rfl (by decide) rfl ?_
  have loop : ∀ k : Nat, k ≤ mm → nmK tp a e b mm = nmK tp a e b k → TW p l e1 (romX 5 115 0 0) s m args below meth c (vx_MQ below (QO A (NmR D A K δ sr ρ dy g n tp a e (nmK tp a e b mm))) (XO A (fun _ _ _ => False)) args s 0 0 A) D vwCl A (kW K δ sr ρ dy) 3 0 0 (pS g a e) 5 [(2, .int (nI k - 1)), (0, .ref (K 0)), (1, .ref a0)] [] := by
    intro k
    induction k with
    | zero =>
      intro hk he
      refine tw_iload_n X dX0_nameOf_5 rfl 0 rfl ?_
      refine tw_if_lt (a := ()) (b := ()) (z := ()) (tgt := 25) X dX0_nameOf_6 rfl (ite_self _) (fun _ _ => ?_) (fun z _ => absurd (by decide) z)
      refine tw_iload_n X dX0_nameOf_25 rfl 0 rfl ?_
      refine tw_if_lt (a := ()) (b := ()) (z := ()) (tgt := 33) X dX0_nameOf_26 rfl (ite_self _) (fun _ _ => ?_) (fun z _ => absurd (by decide) z)
      refine tw_iload_n X dX0_nameOf_33 rfl 0 rfl ?_
      exact tx_iret X hr (Nat.le_refl _) (Nat.le_refl _) (fun t b => by rw [he]; exact ⟨rfl, b⟩) dX0_nameOf_34
    | succ k ih =>
      intro hk he
      rw [nI_pred]
      refine tw_iload_n X dX0_nameOf_5 rfl 0 rfl ?_
      refine tw_if_lt (a := ()) (b := ()) (z := ()) (tgt := 25) X dX0_nameOf_6 rfl (ite_self _) (fun z _ => absurd z (nI_pos (by omega))) (fun _ _ => ?_)
      refine tw_aload_n X dX0_nameOf_9 rfl 1 rfl ?_
      refine tw_aload_n X dX0_nameOf_10 rfl 2 rfl ?_
      refine tw_iload_n X dX0_nameOf_11 rfl 0 rfl ?_
      have ald : ∀ kk : TW p l e1 (romX 5 115 0 0) s m args below meth c (vx_MQ below (QO A (NmR D A K δ sr ρ dy g n tp a e (nmK tp a e b mm))) (XO A (fun _ _ _ => False)) args s 0 0 A) D vwCl A (kW K δ sr ρ dy) 3 0 0 (pS g a e) 13 [(2, .int (nI k)), (0, .ref (K 0)), (1, .ref a0)] [.ref (aK (b + k)), .ref (K 0)], TW p l e1 (romX 5 115 0 0) s m args below meth c (vx_MQ below (QO A (NmR D A K δ sr ρ dy g n tp a e (nmK tp a e b mm))) (XO A (fun _ _ _ => False)) args s 0 0 A) D vwCl A (kW K δ sr ρ dy) 3 0 0 (pS g a e) 12 [(2, .int (nI k)), (0, .ref (K 0)), (1, .ref a0)] [.int (nI k), .ref a0, .ref (K 0)] := fun kk H locs ls hl hP hD hS => va_aldq X.hx X.hb X.hK hP q0 5 h0 rfl (vp_in_nI (by omega) (by omega)) dX0_nameOf_12 (by rw [nI_clamp (by omega), hf k (by omega)]; exact kk H locs ls hl hP hD hS)
      refine ald ?_
      refine tx_callV (n := 1) (b := K 0) (As := [.ref (aK (b + k))]) (st := []) Y (kx_isName t h (by omega)) kGX0_242 kI_X0_isName ⟨Nat.le_of_ble_eq_true rfl, Nat.le_of_ble_eq_true rfl⟩ ⟨Nat.zero_le _, Nat.zero_le _⟩ 0 rfl rfl rfl rfl (Nat.zero_le _) dX0_nameOf_13 (fun E x t h => h.elim) (fun v t1 h1 => ?_)
      obtain ⟨rfl, hb1⟩ := h1
      refine TW.at ?_ hb1
      refine tw_if_ne (a := ()) (b := ()) (z := ()) (tgt := 25) X dX0_nameOf_16 rfl (ite_self _) (fun q _ => ?_) (fun q _ => ?_)
      · have hw := zI_ne.mp q
        refine tw_iinc (q := 0) (v := nI k - 1) (lv' := [(2, .int (nI k - 1)), (0, .ref (K 0)), (1, .ref a0)]) X dX0_nameOf_19 rfl (by rw [Int32.sub_eq_add_neg]; rfl) (by decide) rfl ?_
        refine tw_goto (tgt := 5) X dX0_nameOf_22 rfl ?_
        refine ih (by omega) ?_
        rw [he]
        show (if wrd tp a e (b + k) = true then some k else nmK tp a e b k) = _
        rw [if_neg (by rw [hw]; decide)]
      · have hw : wrd tp a e (b + k) = true := by
          cases z : wrd tp a e (b + k)
          · rw [z] at q
            exact absurd rfl q
          · rfl
        have he2 : nmK tp a e b mm = some k := by
          rw [he]
          show (if wrd tp a e (b + k) = true then some k else nmK tp a e b k) = _
          rw [if_pos hw]
        refine tw_iload_n X dX0_nameOf_25 rfl 0 rfl ?_
        refine tw_if_lt (a := ()) (b := ()) (z := ()) (tgt := 33) X dX0_nameOf_26 rfl (ite_self _) (fun z _ => absurd z (nI_pos (by omega))) (fun _ _ => ?_)
        refine tw_aload_n X dX0_nameOf_29 rfl 1 rfl ?_
        refine tp_next X t h.bd.2 ⟨Nat.le_of_ble_eq_true rfl, Nat.le_of_ble_eq_true rfl⟩ ⟨Nat.zero_le _, Nat.zero_le _⟩ (Nat.zero_le _) dX0_nameOf_30 ?_
        refine tw_iload_n X dX0_nameOf_33 rfl 0 rfl ?_
        exact tx_iret X hr (Nat.le_refl _) (Nat.le_refl _) (fun t b => by rw [he2]; exact ⟨rfl, b⟩) dX0_nameOf_34
  exact loop mm (Nat.le_refl _) rfl
theorem kx_upTo (t : PT g n tp) (h : TK n tp a e) (ms : Nat) (hms : ms ≤ 99) : CX l yX0_upTo cX0_upTo 4 (some .int) 3 80 0 0 D vwCl (kT δ) A aK aV (kW K δ sr ρ dy) [.ref (K 0), .int (nI ms)] (pS g a e) (fun v t => ∃ r, pF n tp a e = .inr r ∧ ¬ ms < r.1 ∧ v = some (.int (nI r.1)) ∧ BW D vwCl A (kW K δ sr ρ dy) (pS g r.2.1 r.2.2) t) (fun q E t => (pF n tp a e = .inl a ∨ ∃ r, pF n tp a e = .inr r ∧ ms < r.1) ∧ FX D A K δ sr ρ dy g a q E t) := by
  refine cx_intro (own := RX0) (lv0 := [(0, .ref (K 0)), (1, .int (nI ms))]) (by decide) rfl (Nat.le_of_ble_eq_true rfl) rfl ?_
  intro p e1 s m args below meth c Y hr hmn htab
  have X := Y.x
  refine tw_aload_n X dX0_upTo_0 rfl 0 rfl ?_
  refine kgX0_225_0 X dX0_upTo_1 ?_
  rw [pS_a]
  refine tw_istore_n (lv' := [(2, .int (nI a)), (0, .ref (K 0)), (1, .int (nI ms))]) X dX0_upTo_4 rfl (by decide) rfl ?_
  refine tw_aload_n X dX0_upTo_5 rfl 1 rfl ?_
  refine tx_callV (n := 0) (b := K 0) (As := []) (st := []) Y (kx_figure t h) kGX0_263 kI_X0_figure ⟨Nat.le_of_ble_eq_true rfl, Nat.le_of_ble_eq_true rfl⟩ ⟨Nat.zero_le _, Nat.zero_le _⟩ 0 rfl rfl rfl rfl (Nat.zero_le _) dX0_upTo_6 (fun E x t h => tx_out X htab (Nat.le_refl _) (Nat.le_refl _) (fun t2 e2 => ?_)) (fun v t1 h1 => ?_)
  · obtain ⟨h1, h2, h3, ext, a', e', b⟩ := h
    exact ⟨Or.inl h1, h2, h3, ext, a', e', by rw [e2]; exact b.1, b.2⟩
  · obtain ⟨r, hF, rfl, hb1⟩ := h1
    have hr4 : r.1 < 2 ^ 31 := by
      unfold pF at hF
      split at hF
      · next q =>
        cases hF
        obtain ⟨q1, q2, q3⟩ := q
        have key : ∀ (mm k v : Nat), a ≤ k → k + mm ≤ e → fgv tp mm k v ≤ 10 ^ mm * v + (10 ^ mm - 1) := by
          intro mm
          induction mm with
          | zero =>
            intro k v _ _
            show v ≤ _
            omega
          | succ mm ih =>
            intro k v h1 h2
            have h3 := h.dig q3 k h1 (by omega)
            have h4 : tp k - 48 ≤ 9 := by
              unfold isDb at h3
              simp at h3
              omega
            have h5 := ih (k + 1) (10 * v + (tp k - 48)) (by omega) (by omega)
            show fgv tp mm (k + 1) (10 * v + (tp k - 48)) ≤ _
            refine Nat.le_trans h5 ?_
            have e1 : 10 ^ (mm + 1) = 10 ^ mm * 10 := Nat.pow_succ _ _
            have e2 : 0 < 10 ^ mm := Nat.pow_pos (by omega)
            have e3 : 10 ^ mm * (tp k - 48) ≤ 10 ^ mm * 9 := Nat.mul_le_mul_left _ h4
            rw [Nat.mul_add, e1, show 10 ^ mm * (10 * v) = 10 ^ mm * 10 * v from (Nat.mul_assoc _ _ _).symm]
            omega
        have h6 := key (e - a) a 0 (Nat.le_refl _) (by omega)
        have h7 : 10 ^ (e - a) ≤ 10 ^ 4 := Nat.pow_le_pow_right (by omega) q2
        show fgv tp (e - a) a 0 < 2 ^ 31
        omega
      · cases hF
    refine TW.at ?_ hb1
    refine tw_istore_n (lv' := [(3, .int (nI r.1)), (2, .int (nI a)), (0, .ref (K 0)), (1, .int (nI ms))]) X dX0_upTo_9 rfl (by decide) rfl ?_
    refine tw_iload_n X dX0_upTo_10 rfl 0 rfl ?_
    refine tw_iload_n X dX0_upTo_11 rfl 3 rfl ?_
    refine tw_icmp_le (a := ()) (b := ()) (z := ()) (tgt := 24) X dX0_upTo_12 rfl (ite_self _) (fun q _ => ?_) (fun q _ => ?_)
    · rw [nI_leI hr4 (by omega)] at q
      refine tw_iload_n X dX0_upTo_24 rfl 0 rfl ?_
      exact tx_iret X hr (Nat.le_refl _) (Nat.le_refl _) (fun t b => ⟨r, hF, by omega, rfl, b⟩) dX0_upTo_25
    · rw [nI_leI hr4 (by omega)] at q
      refine tw_aload_n X dX0_upTo_15 rfl 2 rfl ?_
      refine kgX0_40_0 X dX0_upTo_16 ?_
      refine tw_iload_n X dX0_upTo_19 rfl 1 rfl ?_
      refine tx_callU (n := 1) (b := K 2) (As := [.int (nI a)]) (st := []) Y (kx_ofF (nI a)) (va_cwU 1 Y.x.hts (lw_U q729 q730 q732 q733 q120 q734) rfl rfl rfl rfl (by decide +kernel) ⟨Nat.le_of_ble_eq_true rfl, Nat.le_of_ble_eq_true rfl⟩) ⟨Nat.zero_le _, Nat.zero_le _⟩ 2 rfl rfl rfl rfl (Nat.zero_le _) dX0_upTo_20 (fun E x t h => h.elim) (fun v t h2 => ?_)
      obtain ⟨rfl, hb⟩ := h2
      refine TW.at ?_ hb
      refine tx_throw (q0 := 2) Y.x rfl rfl dX0_upTo_23 (fun t b => ?_)
      exact tx_out X htab (Nat.le_refl _) (Nat.le_refl _) (fun t2 e2 => ⟨Or.inr ⟨r, hF, by omega⟩, FX.of ⟨by rw [e2]; exact b.1, b.2⟩⟩)
end KP2
