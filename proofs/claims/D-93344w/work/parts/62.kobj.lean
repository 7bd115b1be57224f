/-! people's objects made -/
set_option maxRecDepth 100000
section KOB
variable {p : Program} {l : Launch} {e : Env} {R : Room} {s : State} {m : MethodId} {args : Array Value} {below : List Frame} {meth : Method} {c : Code} {Q : State → Prop} {D : va_G} {A : Nat → Prop} {nL ce sl : Nat} {g : St} {pc : Nat} {lv : List (Nat × Value)} {st : List Value} {cc : ByteArray} {own : String} {K : Nat → Nat} {δ : Nat → ClassId} {sr ρ : Rf} {dy : va_W}
theorem kW_at (i : Nat) : (kW K δ sr ρ dy g)[i + 68]? = dy[i]? := rfl
theorem kW_set (i : Nat) (x : Nat × va_E) : (kW K δ sr ρ dy g).set (i + 68) x = kW K δ sr ρ (dy.set i x) g := rfl
theorem kW_app (x : va_W) : kW K δ sr ρ dy g ++ x = kW K δ sr ρ (dy ++ x) g := List.append_assoc _ _ _
theorem dy_l (x : Nat × va_E) : (dy ++ [x])[dy.length]? = some x := by simp
theorem dy_s (x y : Nat × va_E) : (dy ++ [x]).set dy.length y = dy ++ [y] := by simp
theorem kW_l (x : Nat × va_E) : (kW K δ sr ρ (dy ++ [x]) g)[dy.length + 68]? = some x := by rw [kW_at, dy_l]
theorem kW_ls (x y : Nat × va_E) : (kW K δ sr ρ (dy ++ [x]) g).set (dy.length + 68) y = kW K δ sr ρ (dy ++ [y]) g := by rw [kW_set, dy_s]
/-- a thing is made -/
theorem tk_new (X : Cx p c cc nL s args own m meth D vwCl (kT δ) A) {C : String} {T : u_T} {N ci index : Nat} {fs : List Value} (hin : ∀ w ∈ u_ws C T N, w ∈ lw_all) (ty : Nat → FieldType) (hty : ∀ k, k < N → parseFieldDescriptor (T k).2.2.1 = some (ty k)) (hcl : Cond.classLink own index C ∈ lw_all) (hinst : Cond.instantiable C N ∈ lw_all) (hini : Cond.initialized C ∈ lw_all) (hc : vwCl[ci]? = some (C, T, N)) (hfs : ∀ j, j < N → defaultValue (ty j) = vp_V fs j) (h1 : ce + 1 ≤ R.cells) (h2 : sl + N ≤ R.slots) (hdg : decode cc pc = .ok (.new index, 3)) (kk : ∀ q : Nat, TW p l e R s m args below meth c Q D vwCl A (kW K δ sr ρ (dy ++ [(q, .inr (ci, fs))])) nL (ce + 1) (sl + N) g (pc + 3) lv (.ref q :: st)) : TW p l e R s m args below meth c Q D vwCl A (kW K δ sr ρ dy) nL ce sl g pc lv st :=
  fun H locs ls hl hP hD hS => va_new X.hx X.hb X.hts hin ty hty X.hown (X.hts _ hcl) (X.hts _ hinst) (X.hts _ hini) X.hK hP hD hS X.hA hc hfs h1 h2 hdg (fun q H1 hP1 hD1 hS1 => kk q H1 locs ls hl (by rw [kW_app] at hP1; exact hP1) (by rw [kW_app] at hD1; exact hD1) hS1)
/-- a final field of the thing that was made last -/
theorem tk_putF (X : Cx p c cc nL s args own m meth D vwCl (kT δ) A) (hmn : meth.name = "<init>") {ref C : String} {T : u_T} {N ci index : Nat} (hin : ∀ w ∈ u_ws C T N, w ∈ lw_all) (ty0 : Nat → FieldType) (hty : ∀ k, k < N → parseFieldDescriptor (T k).2.2.1 = some (ty0 k)) (hnm : ∀ a, a < N → ∀ b, b < N → a ≠ b → (T a).2.1 ≠ (T b).2.1) (hc : vwCl[ci]? = some (C, T, N)) (k : Nat) (hk : k < N) {nm ds : String} (hT : T k = (ref, nm, ds, true)) (hlink : Cond.fieldLink own index ref nm ds ∈ lw_all) (hdecl : ref = own) {ty : FieldType} {v : Value} (hd : parseFieldDescriptor ds = some ty) (hn : narrow ty v = v) (hfit : fits ty v = true) {q : Nat} {fs : List Value} (hl0 : k < fs.length) (hdg : decode cc pc = .ok (.putfield index, 3)) (kk : TW p l e R s m args below meth c Q D vwCl A (kW K δ sr ρ (dy ++ [(q, .inr (ci, fs.set k v))])) nL ce sl g (pc + 3) lv st) : TW p l e R s m args below meth c Q D vwCl A (kW K δ sr ρ (dy ++ [(q, .inr (ci, fs))])) nL ce sl g pc lv (v :: .ref q :: st) :=
  fun H locs ls hl hP hD hS => va_putF (ref := ref) (ty := ty) X.hx X.hb X.hts hin ty0 hty hnm X.hown X.hK hP hD hS (dy.length + 68) (kW_l _) hc k hk (by rw [hT]; exact X.hts _ hlink) (fun _ h => by rw [hT] at h ⊢; exact h) (by rw [hT]) hmn (by rw [hT]; exact hdecl) (by rw [hT]; exact hd) hn hfit hl0 hdg (fun H1 locs1 hP1 hD1 hS1 => kk H1 locs1 ls hl (by rw [kW_ls] at hP1; exact hP1) (by rw [kW_ls] at hD1; exact hD1) hS1)
end KOB
theorem kx_iPerson {l : Launch} {D : va_G} {A : Nat → Prop} {K : Nat → Nat} {δ : Nat → ClassId} {sr ρ : Rf} {dy : va_W} {g : St} {aK aV : Nat → Nat} {ci : Nat} {C : String} {T : u_T} (hin : ∀ w ∈ u_ws C T 2, w ∈ lw_all) (ty0 : Nat → FieldType) (hty : ∀ k, k < 2 → parseFieldDescriptor (T k).2.2.1 = some (ty0 k)) (hnm : ∀ a, a < 2 → ∀ b, b < 2 → a ≠ b → (T a).2.1 ≠ (T b).2.1) (hc : vwCl[ci]? = some (C, T, 2)) (h0 : T 0 = ("HadForVoice$Person", "number", "I", true)) (h1 : T 1 = ("HadForVoice$Person", "needs", "I", true)) (q : Nat) (u0 u1 n nd : Int32) : CX l yX7_init cX7_init 3 none 1 20 0 0 D vwCl (kT δ) A aK aV (kW K δ sr ρ (dy ++ [(q, .inr (ci, [.int u0, .int u1]))])) [.ref q, .int n, .int nd] g (fun v t => v = none ∧ BW D vwCl A (kW K δ sr ρ (dy ++ [(q, .inr (ci, [.int n, .int nd]))])) g t) (fun _ _ _ => False) := by
  refine cx_intro (own := RX7) (lv0 := [(0, .ref q), (1, .int n), (2, .int nd)]) (by decide) rfl (Nat.le_of_ble_eq_true rfl) rfl ?_
  intro p e s m args below meth c Y hr hmn htab
  refine tw_aload_n Y.x dX7_init_0 rfl 0 rfl ?_
  refine tw_objInit Y.x q523 (Nat.le_of_ble_eq_true rfl) (Nat.le_of_ble_eq_true rfl) dX7_init_1 ?_
  refine tw_aload_n Y.x dX7_init_4 rfl 0 rfl ?_
  refine tw_iload_n Y.x dX7_init_5 rfl 1 rfl ?_
  refine tk_putF (ty := .int) Y.x hmn hin ty0 hty hnm hc 0 (by decide) h0 q524 rfl rfl rfl rfl (Nat.le_of_ble_eq_true rfl) dX7_init_6 ?_
  refine tw_aload_n Y.x dX7_init_9 rfl 0 rfl ?_
  refine tw_iload_n Y.x dX7_init_10 rfl 2 rfl ?_
  refine tk_putF (ty := .int) Y.x hmn hin ty0 hty hnm hc 1 (by decide) h1 q525 rfl rfl rfl rfl (Nat.le_of_ble_eq_true rfl) dX7_init_11 ?_
  exact tx_vret Y.x hr (Nat.le_refl _) (Nat.le_refl _) (fun t b => ⟨rfl, b⟩) dX7_init_14

theorem kx_iMaid {l : Launch} {D : va_G} {A : Nat → Prop} {K : Nat → Nat} {δ : Nat → ClassId} {sr ρ : Rf} {dy : va_W} {g : St} {aK aV : Nat → Nat} {ci : Nat} {C : String} {T : u_T} (hin : ∀ w ∈ u_ws C T 2, w ∈ lw_all) (ty0 : Nat → FieldType) (hty : ∀ k, k < 2 → parseFieldDescriptor (T k).2.2.1 = some (ty0 k)) (hnm : ∀ a, a < 2 → ∀ b, b < 2 → a ≠ b → (T a).2.1 ≠ (T b).2.1) (hc : vwCl[ci]? = some (C, T, 2)) (h0 : T 0 = ("HadForVoice$Person", "number", "I", true)) (h1 : T 1 = ("HadForVoice$Person", "needs", "I", true)) (q : Nat) (u0 u1 n nd : Int32) : CX l yX8_init cX8_init 3 none 2 60 0 0 D vwCl (kT δ) A aK aV (kW K δ sr ρ (dy ++ [(q, .inr (ci, [.int u0, .int u1]))])) [.ref q, .int n, .int nd] g (fun v t => v = none ∧ BW D vwCl A (kW K δ sr ρ (dy ++ [(q, .inr (ci, [.int n, .int nd]))])) g t) (fun _ _ _ => False) := by
  refine cx_intro (own := RX8) (lv0 := [(0, .ref q), (1, .int n), (2, .int nd)]) (by decide) rfl (Nat.le_of_ble_eq_true rfl) rfl ?_
  intro p e s m args below meth c Y hr hmn htab
  refine tw_aload_n Y.x dX8_init_0 rfl 0 rfl ?_
  refine tw_iload_n Y.x dX8_init_1 rfl 1 rfl ?_
  refine tw_iload_n Y.x dX8_init_2 rfl 2 rfl ?_
  refine tx_callI (n := 2) (b := q) (As := [.int n, .int nd]) (st := []) Y (kx_iPerson hin ty0 hty hnm hc h0 h1 q u0 u1 n nd) (lw_meth q522) q126 q520 q521 rfl (by decide +kernel) ⟨Nat.le_of_ble_eq_true rfl, Nat.le_of_ble_eq_true rfl⟩ ⟨Nat.zero_le _, Nat.zero_le _⟩ rfl rfl (Nat.zero_le _) dX8_init_3 (fun E x t h => h.elim) (fun v t h => ?_)
  obtain ⟨rfl, hb⟩ := h
  exact TW.at (tx_vret Y.x hr (Nat.le_refl _) (Nat.le_refl _) (fun t b => ⟨rfl, b⟩) dX8_init_6) hb
theorem kx_iMiser {l : Launch} {D : va_G} {A : Nat → Prop} {K : Nat → Nat} {δ : Nat → ClassId} {sr ρ : Rf} {dy : va_W} {g : St} {aK aV : Nat → Nat} {ci : Nat} {C : String} {T : u_T} (hin : ∀ w ∈ u_ws C T 2, w ∈ lw_all) (ty0 : Nat → FieldType) (hty : ∀ k, k < 2 → parseFieldDescriptor (T k).2.2.1 = some (ty0 k)) (hnm : ∀ a, a < 2 → ∀ b, b < 2 → a ≠ b → (T a).2.1 ≠ (T b).2.1) (hc : vwCl[ci]? = some (C, T, 2)) (h0 : T 0 = ("HadForVoice$Person", "number", "I", true)) (h1 : T 1 = ("HadForVoice$Person", "needs", "I", true)) (q : Nat) (u0 u1 n nd : Int32) : CX l yX9_init cX9_init 3 none 2 60 0 0 D vwCl (kT δ) A aK aV (kW K δ sr ρ (dy ++ [(q, .inr (ci, [.int u0, .int u1]))])) [.ref q, .int n, .int nd] g (fun v t => v = none ∧ BW D vwCl A (kW K δ sr ρ (dy ++ [(q, .inr (ci, [.int n, .int nd]))])) g t) (fun _ _ _ => False) := by
  refine cx_intro (own := RX9) (lv0 := [(0, .ref q), (1, .int n), (2, .int nd)]) (by decide) rfl (Nat.le_of_ble_eq_true rfl) rfl ?_
  intro p e s m args below meth c Y hr hmn htab
  refine tw_aload_n Y.x dX9_init_0 rfl 0 rfl ?_
  refine tw_iload_n Y.x dX9_init_1 rfl 1 rfl ?_
  refine tw_iload_n Y.x dX9_init_2 rfl 2 rfl ?_
  refine tx_callI (n := 2) (b := q) (As := [.int n, .int nd]) (st := []) Y (kx_iPerson hin ty0 hty hnm hc h0 h1 q u0 u1 n nd) (lw_meth q522) q126 q536 q521 rfl (by decide +kernel) ⟨Nat.le_of_ble_eq_true rfl, Nat.le_of_ble_eq_true rfl⟩ ⟨Nat.zero_le _, Nat.zero_le _⟩ rfl rfl (Nat.zero_le _) dX9_init_3 (fun E x t h => h.elim) (fun v t h => ?_)
  obtain ⟨rfl, hb⟩ := h
  exact TW.at (tx_vret Y.x hr (Nat.le_refl _) (Nat.le_refl _) (fun t b => ⟨rfl, b⟩) dX9_init_6) hb
theorem kx_iPrince {l : Launch} {D : va_G} {A : Nat → Prop} {K : Nat → Nat} {δ : Nat → ClassId} {sr ρ : Rf} {dy : va_W} {g : St} {aK aV : Nat → Nat} {ci : Nat} {C : String} {T : u_T} (hin : ∀ w ∈ u_ws C T 2, w ∈ lw_all) (ty0 : Nat → FieldType) (hty : ∀ k, k < 2 → parseFieldDescriptor (T k).2.2.1 = some (ty0 k)) (hnm : ∀ a, a < 2 → ∀ b, b < 2 → a ≠ b → (T a).2.1 ≠ (T b).2.1) (hc : vwCl[ci]? = some (C, T, 2)) (h0 : T 0 = ("HadForVoice$Person", "number", "I", true)) (h1 : T 1 = ("HadForVoice$Person", "needs", "I", true)) (q : Nat) (u0 u1 n nd : Int32) : CX l yX11_init cX11_init 3 none 2 60 0 0 D vwCl (kT δ) A aK aV (kW K δ sr ρ (dy ++ [(q, .inr (ci, [.int u0, .int u1]))])) [.ref q, .int n, .int nd] g (fun v t => v = none ∧ BW D vwCl A (kW K δ sr ρ (dy ++ [(q, .inr (ci, [.int n, .int nd]))])) g t) (fun _ _ _ => False) := by
  refine cx_intro (own := RX11) (lv0 := [(0, .ref q), (1, .int n), (2, .int nd)]) (by decide) rfl (Nat.le_of_ble_eq_true rfl) rfl ?_
  intro p e s m args below meth c Y hr hmn htab
  refine tw_aload_n Y.x dX11_init_0 rfl 0 rfl ?_
  refine tw_iload_n Y.x dX11_init_1 rfl 1 rfl ?_
  refine tw_iload_n Y.x dX11_init_2 rfl 2 rfl ?_
  refine tx_callI (n := 2) (b := q) (As := [.int n, .int nd]) (st := []) Y (kx_iPerson hin ty0 hty hnm hc h0 h1 q u0 u1 n nd) (lw_meth q522) q126 q554 q521 rfl (by decide +kernel) ⟨Nat.le_of_ble_eq_true rfl, Nat.le_of_ble_eq_true rfl⟩ ⟨Nat.zero_le _, Nat.zero_le _⟩ rfl rfl (Nat.zero_le _) dX11_init_3 (fun E x t h => h.elim) (fun v t h => ?_)
  obtain ⟨rfl, hb⟩ := h
  exact TW.at (tx_vret Y.x hr (Nat.le_refl _) (Nat.le_refl _) (fun t b => ⟨rfl, b⟩) dX11_init_6) hb
theorem kx_iWidow {l : Launch} {D : va_G} {A : Nat → Prop} {K : Nat → Nat} {δ : Nat → ClassId} {sr ρ : Rf} {dy : va_W} {g : St} {aK aV : Nat → Nat} {ci : Nat} {C : String} {T : u_T} (hin : ∀ w ∈ u_ws C T 2, w ∈ lw_all) (ty0 : Nat → FieldType) (hty : ∀ k, k < 2 → parseFieldDescriptor (T k).2.2.1 = some (ty0 k)) (hnm : ∀ a, a < 2 → ∀ b, b < 2 → a ≠ b → (T a).2.1 ≠ (T b).2.1) (hc : vwCl[ci]? = some (C, T, 2)) (h0 : T 0 = ("HadForVoice$Person", "number", "I", true)) (h1 : T 1 = ("HadForVoice$Person", "needs", "I", true)) (q : Nat) (u0 u1 n nd : Int32) : CX l yX10_init cX10_init 3 none 3 90 0 0 D vwCl (kT δ) A aK aV (kW K δ sr ρ (dy ++ [(q, .inr (ci, [.int u0, .int u1]))])) [.ref q, .int n, .int nd] g (fun v t => v = none ∧ BW D vwCl A (kW K δ sr ρ (dy ++ [(q, .inr (ci, [.int n, .int nd]))])) g t) (fun _ _ _ => False) := by
  refine cx_intro (own := RX10) (lv0 := [(0, .ref q), (1, .int n), (2, .int nd)]) (by decide) rfl (Nat.le_of_ble_eq_true rfl) rfl ?_
  intro p e s m args below meth c Y hr hmn htab
  refine tw_aload_n Y.x dX10_init_0 rfl 0 rfl ?_
  refine tw_iload_n Y.x dX10_init_1 rfl 1 rfl ?_
  refine tw_iload_n Y.x dX10_init_2 rfl 2 rfl ?_
  refine tx_callI (n := 2) (b := q) (As := [.int n, .int nd]) (st := []) Y (kx_iMiser hin ty0 hty hnm hc h0 h1 q u0 u1 n nd) (lw_meth q535) q128 q545 q534 rfl (by decide +kernel) ⟨Nat.le_of_ble_eq_true rfl, Nat.le_of_ble_eq_true rfl⟩ ⟨Nat.zero_le _, Nat.zero_le _⟩ rfl rfl (Nat.zero_le _) dX10_init_3 (fun E x t h => h.elim) (fun v t h => ?_)
  obtain ⟨rfl, hb⟩ := h
  exact TW.at (tx_vret Y.x hr (Nat.le_refl _) (Nat.le_refl _) (fun t b => ⟨rfl, b⟩) dX10_init_6) hb
theorem kx_iBeast {l : Launch} {D : va_G} {A : Nat → Prop} {K : Nat → Nat} {δ : Nat → ClassId} {sr ρ : Rf} {dy : va_W} {g : St} {aK aV : Nat → Nat} {ci : Nat} {C : String} {T : u_T} (hin : ∀ w ∈ u_ws C T 2, w ∈ lw_all) (ty0 : Nat → FieldType) (hty : ∀ k, k < 2 → parseFieldDescriptor (T k).2.2.1 = some (ty0 k)) (hnm : ∀ a, a < 2 → ∀ b, b < 2 → a ≠ b → (T a).2.1 ≠ (T b).2.1) (hc : vwCl[ci]? = some (C, T, 2)) (h0 : T 0 = ("HadForVoice$Person", "number", "I", true)) (h1 : T 1 = ("HadForVoice$Person", "needs", "I", true)) (q : Nat) (u0 u1 n nd : Int32) : CX l yX12_init cX12_init 3 none 3 90 0 0 D vwCl (kT δ) A aK aV (kW K δ sr ρ (dy ++ [(q, .inr (ci, [.int u0, .int u1]))])) [.ref q, .int n, .int nd] g (fun v t => v = none ∧ BW D vwCl A (kW K δ sr ρ (dy ++ [(q, .inr (ci, [.int n, .int nd]))])) g t) (fun _ _ _ => False) := by
  refine cx_intro (own := RX12) (lv0 := [(0, .ref q), (1, .int n), (2, .int nd)]) (by decide) rfl (Nat.le_of_ble_eq_true rfl) rfl ?_
  intro p e s m args below meth c Y hr hmn htab
  refine tw_aload_n Y.x dX12_init_0 rfl 0 rfl ?_
  refine tw_iload_n Y.x dX12_init_1 rfl 1 rfl ?_
  refine tw_iload_n Y.x dX12_init_2 rfl 2 rfl ?_
  refine tx_callI (n := 2) (b := q) (As := [.int n, .int nd]) (st := []) Y (kx_iPrince hin ty0 hty hnm hc h0 h1 q u0 u1 n nd) (lw_meth q553) q130 q563 q552 rfl (by decide +kernel) ⟨Nat.le_of_ble_eq_true rfl, Nat.le_of_ble_eq_true rfl⟩ ⟨Nat.zero_le _, Nat.zero_le _⟩ rfl rfl (Nat.zero_le _) dX12_init_3 (fun E x t h => h.elim) (fun v t h => ?_)
  obtain ⟨rfl, hb⟩ := h
  exact TW.at (tx_vret Y.x hr (Nat.le_refl _) (Nat.le_refl _) (fun t b => ⟨rfl, b⟩) dX12_init_6) hb
theorem kx_made {l : Launch} {D : va_G} {A : Nat → Prop} {K : Nat → Nat} {δ : Nat → ClassId} {sr ρ : Rf} {dy : va_W} {g : St} {aK aV : Nat → Nat} {kd : Nat} (h1 : 1 ≤ kd) (h5 : kd ≤ 5) (n nd : Int32) : CX l yX0_made cX0_made 3 (some (.object "HadForVoice$Person")) 4 120 1 2 D vwCl (kT δ) A aK aV (kW K δ sr ρ dy) [.int (nI kd), .int n, .int nd] g (fun v t => ∃ q, v = some (.ref q) ∧ BW D vwCl A (kW K δ sr ρ (dy ++ [(q, .inr (6 + kd, [.int n, .int nd]))])) g t) (fun _ _ _ => False) := by
  refine cx_intro (own := RX0) (lv0 := [(0, .int (nI kd)), (1, .int n), (2, .int nd)]) (by decide) rfl (Nat.le_of_ble_eq_true rfl) rfl ?_
  intro p e s m args below meth c Y hr hmn htab
  refine tw_iload_n Y.x dX0_made_0 rfl 0 rfl ?_
  match kd, h1, h5 with
  | 1, _, _ =>
    refine tw_tableIn (off := 31) (tgt := 32) Y.x dX0_made_1 (v := 1) rfl (by decide) (by decide) rfl rfl ?_
    refine tk_new (ci := 7) (fs := [.int 0, .int 0]) Y.x in_X8 tyX8 tyX8_ok q515 q516 q127 rfl (fun j hj => by match j, hj with | 0, _ => rfl | 1, _ => rfl) (Nat.le_refl _) (Nat.le_refl _) dX0_made_32 (fun q => ?_)
    refine tw_dup Y.x dX0_made_35 rfl ?_
    refine tw_iload_n Y.x dX0_made_36 rfl 1 rfl ?_
    refine tw_iload_n Y.x dX0_made_37 rfl 2 rfl ?_
    refine tx_callI (n := 2) (b := q) (As := [.int n, .int nd]) (st := [.ref q]) Y (kx_iMaid in_X8 tyX8 tyX8_ok nmX8 rfl rfl rfl q 0 0 n nd) (lw_meth q519) q127 q517 q518 rfl (by decide +kernel) ⟨Nat.le_of_ble_eq_true rfl, Nat.le_of_ble_eq_true rfl⟩ ⟨Nat.le_refl _, Nat.le_refl _⟩ rfl rfl (Nat.le_of_ble_eq_true rfl) dX0_made_38 (fun E x t h => h.elim) (fun v t h => ?_)
    obtain ⟨rfl, hb⟩ := h
    exact TW.at (tx_aret Y.x hr (Or.inl ⟨_, rfl⟩) (Or.inr ⟨_, rfl⟩) (Nat.le_refl _) (Nat.le_refl _) (fun t b => ⟨q, rfl, b⟩) dX0_made_41) hb
  | 2, _, _ =>
    refine tw_tableIn (off := 41) (tgt := 42) Y.x dX0_made_1 (v := 2) rfl (by decide) (by decide) rfl rfl ?_
    refine tk_new (ci := 8) (fs := [.int 0, .int 0]) Y.x in_X9 tyX9 tyX9_ok q531 q532 q128 rfl (fun j hj => by match j, hj with | 0, _ => rfl | 1, _ => rfl) (Nat.le_refl _) (Nat.le_refl _) dX0_made_42 (fun q => ?_)
    refine tw_dup Y.x dX0_made_45 rfl ?_
    refine tw_iload_n Y.x dX0_made_46 rfl 1 rfl ?_
    refine tw_iload_n Y.x dX0_made_47 rfl 2 rfl ?_
    refine tx_callI (n := 2) (b := q) (As := [.int n, .int nd]) (st := [.ref q]) Y (kx_iMiser in_X9 tyX9 tyX9_ok nmX9 rfl rfl rfl q 0 0 n nd) (lw_meth q535) q128 q533 q534 rfl (by decide +kernel) ⟨Nat.le_of_ble_eq_true rfl, Nat.le_of_ble_eq_true rfl⟩ ⟨Nat.le_refl _, Nat.le_refl _⟩ rfl rfl (Nat.le_of_ble_eq_true rfl) dX0_made_48 (fun E x t h => h.elim) (fun v t h => ?_)
    obtain ⟨rfl, hb⟩ := h
    exact TW.at (tx_aret Y.x hr (Or.inl ⟨_, rfl⟩) (Or.inr ⟨_, rfl⟩) (Nat.le_refl _) (Nat.le_refl _) (fun t b => ⟨q, rfl, b⟩) dX0_made_51) hb
  | 3, _, _ =>
    refine tw_tableIn (off := 51) (tgt := 52) Y.x dX0_made_1 (v := 3) rfl (by decide) (by decide) rfl rfl ?_
    refine tk_new (ci := 9) (fs := [.int 0, .int 0]) Y.x in_X10 tyX10 tyX10_ok q540 q541 q129 rfl (fun j hj => by match j, hj with | 0, _ => rfl | 1, _ => rfl) (Nat.le_refl _) (Nat.le_refl _) dX0_made_52 (fun q => ?_)
    refine tw_dup Y.x dX0_made_55 rfl ?_
    refine tw_iload_n Y.x dX0_made_56 rfl 1 rfl ?_
    refine tw_iload_n Y.x dX0_made_57 rfl 2 rfl ?_
    refine tx_callI (n := 2) (b := q) (As := [.int n, .int nd]) (st := [.ref q]) Y (kx_iWidow in_X10 tyX10 tyX10_ok nmX10 rfl rfl rfl q 0 0 n nd) (lw_meth q544) q129 q542 q543 rfl (by decide +kernel) ⟨Nat.le_of_ble_eq_true rfl, Nat.le_of_ble_eq_true rfl⟩ ⟨Nat.le_refl _, Nat.le_refl _⟩ rfl rfl (Nat.le_of_ble_eq_true rfl) dX0_made_58 (fun E x t h => h.elim) (fun v t h => ?_)
    obtain ⟨rfl, hb⟩ := h
    exact TW.at (tx_aret Y.x hr (Or.inl ⟨_, rfl⟩) (Or.inr ⟨_, rfl⟩) (Nat.le_refl _) (Nat.le_refl _) (fun t b => ⟨q, rfl, b⟩) dX0_made_61) hb
  | 4, _, _ =>
    refine tw_tableIn (off := 61) (tgt := 62) Y.x dX0_made_1 (v := 4) rfl (by decide) (by decide) rfl rfl ?_
    refine tk_new (ci := 10) (fs := [.int 0, .int 0]) Y.x in_X11 tyX11 tyX11_ok q549 q550 q130 rfl (fun j hj => by match j, hj with | 0, _ => rfl | 1, _ => rfl) (Nat.le_refl _) (Nat.le_refl _) dX0_made_62 (fun q => ?_)
    refine tw_dup Y.x dX0_made_65 rfl ?_
    refine tw_iload_n Y.x dX0_made_66 rfl 1 rfl ?_
    refine tw_iload_n Y.x dX0_made_67 rfl 2 rfl ?_
    refine tx_callI (n := 2) (b := q) (As := [.int n, .int nd]) (st := [.ref q]) Y (kx_iPrince in_X11 tyX11 tyX11_ok nmX11 rfl rfl rfl q 0 0 n nd) (lw_meth q553) q130 q551 q552 rfl (by decide +kernel) ⟨Nat.le_of_ble_eq_true rfl, Nat.le_of_ble_eq_true rfl⟩ ⟨Nat.le_refl _, Nat.le_refl _⟩ rfl rfl (Nat.le_of_ble_eq_true rfl) dX0_made_68 (fun E x t h => h.elim) (fun v t h => ?_)
    obtain ⟨rfl, hb⟩ := h
    exact TW.at (tx_aret Y.x hr (Or.inl ⟨_, rfl⟩) (Or.inr ⟨_, rfl⟩) (Nat.le_refl _) (Nat.le_refl _) (fun t b => ⟨q, rfl, b⟩) dX0_made_71) hb
  | 5, _, _ =>
    refine tw_tableOut (tgt := 72) Y.x dX0_made_1 (Or.inr (by decide)) rfl ?_
    refine tk_new (ci := 11) (fs := [.int 0, .int 0]) Y.x in_X12 tyX12 tyX12_ok q558 q559 q131 rfl (fun j hj => by match j, hj with | 0, _ => rfl | 1, _ => rfl) (Nat.le_refl _) (Nat.le_refl _) dX0_made_72 (fun q => ?_)
    refine tw_dup Y.x dX0_made_75 rfl ?_
    refine tw_iload_n Y.x dX0_made_76 rfl 1 rfl ?_
    refine tw_iload_n Y.x dX0_made_77 rfl 2 rfl ?_
    refine tx_callI (n := 2) (b := q) (As := [.int n, .int nd]) (st := [.ref q]) Y (kx_iBeast in_X12 tyX12 tyX12_ok nmX12 rfl rfl rfl q 0 0 n nd) (lw_meth q562) q131 q560 q561 rfl (by decide +kernel) ⟨Nat.le_of_ble_eq_true rfl, Nat.le_of_ble_eq_true rfl⟩ ⟨Nat.le_refl _, Nat.le_refl _⟩ rfl rfl (Nat.le_of_ble_eq_true rfl) dX0_made_78 (fun E x t h => h.elim) (fun v t h => ?_)
    obtain ⟨rfl, hb⟩ := h
    exact TW.at (tx_aret Y.x hr (Or.inl ⟨_, rfl⟩) (Or.inr ⟨_, rfl⟩) (Nat.le_refl _) (Nat.le_refl _) (fun t b => ⟨q, rfl, b⟩) dX0_made_81) hb
section KOC
variable {p : Program} {l : Launch} {e : Env} {R : Room} {s : State} {m : MethodId} {args : Array Value} {below : List Frame} {meth : Method} {c : Code} {Q : State → Prop} {D : va_G} {A : Nat → Prop} {nL ce sl : Nat} {g : St} {pc : Nat} {lv : List (Nat × Value)} {st : List Value} {cc : ByteArray} {own : String} {K : Nat → Nat} {δ : Nat → ClassId} {sr ρ : Rf} {dy : va_W} {aK aV : Nat → Nat}
theorem pers_cl : ∀ kd, 1 ≤ kd → kd ≤ 5 → ∃ C T, vwCl[6 + kd]? = some (C, T, 2) ∧ Cond.castable C "HadForVoice$Person" ∈ nwL
  | 1, _, _ => ⟨_, _, rfl, nq2218⟩
  | 2, _, _ => ⟨_, _, rfl, nq2219⟩
  | 3, _, _ => ⟨_, _, rfl, nq2221⟩
  | 4, _, _ => ⟨_, _, rfl, nq2220⟩
  | 5, _, _ => ⟨_, _, rfl, nq2217⟩
/-- the one made last comes among the people -/
theorem tk_aast6 (X : Cx p c cc nL s args own m meth D vwCl (kT δ) A) {pp kd q : Nat} {vs : List Value} (hp : pp < 6) (h1 : 1 ≤ kd) (h5 : kd ≤ 5) (hdg : decode cc pc = .ok (.aastore, 1)) (kk : TW p l e R s m args below meth c Q D vwCl A (kW K δ sr (upR ρ 1 pp (some q)) (dy ++ [(q, .inr (6 + kd, vs))])) nL ce sl g (pc + 1) lv st) : TW p l e R s m args below meth c Q D vwCl A (kW K δ sr ρ (dy ++ [(q, .inr (6 + kd, vs))])) nL ce sl g pc lv (.ref q :: .int (nI pp) :: .ref (K 6) :: st) := by
  obtain ⟨C, T, hc, hca⟩ := pers_cl kd h1 h5
  intro H locs ls hl hP hD hS
  refine va_astqO (r := (C, T, 2)) X.hx X.hb X.hK hP hD hS 45 2 (dy.length + 68) (6 + kd) (rfl : (kW K δ sr ρ (dy ++ [(q, .inr (6 + kd, vs))]) g)[45]? = some (K 6, .inl (δ 2, 6, .inr (.inr (.inr (.inr (ρ 1))))))) rfl (X.hN.1 _ hca) (kW_l _) hc (vp_in_nI hp (by decide)) hdg (fun H1 locs1 hP1 hD1 hS1 => ?_)
  rw [nI_clamp (by omega)] at hP1 hD1
  exact kk H1 locs1 ls hl hP1 hD1 hS1
theorem kG_163 : GoodIn lw_all (va_wsS RX0 163 yX0_made (ws_ yX0_made cX0_made 3 (some (.object "HadForVoice$Person")))) := lw_S q512 q513 q116 q514
theorem kI_made : yX0_made.cls ≠ "java/lang/invoke/MethodHandle" ∧ yX0_made.cls ≠ "java/lang/invoke/VarHandle" ∧ (parseMethodDescriptor yX0_made.desc).map (fun d => d.parameters.length) = some 3 := by decide +kernel
theorem kx_renew {pp kd : Nat} (hp : pp < 6) (hk : g 45 pp = nI kd) (h1 : 1 ≤ kd) (h5 : kd ≤ 5) : CX l yX0_renew cX0_renew 2 none 5 160 1 2 D vwCl (kT δ) A aK aV (kW K δ sr ρ dy) [.ref (K 0), .int (nI pp)] g (fun v t => v = none ∧ ∃ q, BW D vwCl A (kW K δ sr (upR ρ 1 pp (some q)) (dy ++ [(q, .inr (6 + kd, [.int (nI pp), .int (g 47 pp)]))])) g t) (fun _ _ _ => False) := by
  refine cx_intro (own := RX0) (lv0 := [(0, .ref (K 0)), (1, .int (nI pp))]) (by decide) rfl (Nat.le_of_ble_eq_true rfl) rfl ?_
  intro p e s m args below meth c Y hr hmn htab
  have X := Y.x
  refine tw_aload_n X dX0_renew_0 rfl 0 rfl ?_
  refine kgX0_59_0 X dX0_renew_1 ?_
  refine tw_iload_n X dX0_renew_4 rfl 1 rfl ?_
  refine tw_aload_n X dX0_renew_5 rfl 0 rfl ?_
  refine kgX0_47_0 X dX0_renew_6 ?_
  refine kgX0_157_3 X dX0_renew_9 ?_
  refine tw_iload_n X dX0_renew_12 rfl 1 rfl ?_
  refine klX0_45 (x := nI kd) X (by rw [rd_n hp (by decide), hk]) dX0_renew_13 ?_
  refine tw_iload_n X dX0_renew_14 rfl 1 rfl ?_
  refine tw_aload_n X dX0_renew_15 rfl 0 rfl ?_
  refine kgX0_47_0 X dX0_renew_16 ?_
  refine kgX0_160_3 X dX0_renew_19 ?_
  refine tw_iload_n X dX0_renew_22 rfl 1 rfl ?_
  refine klX0_47 (x := g 47 pp) X (rd_n hp (by decide)) dX0_renew_23 ?_
  refine tx_callS (n := 3) (As := [.int (nI kd), .int (nI pp), .int (g 47 pp)]) (st := [.int (nI pp), .ref (K 6)]) Y (kx_made h1 h5 (nI pp) (g 47 pp)) kG_163 kI_made ⟨Nat.le_of_ble_eq_true rfl, Nat.le_of_ble_eq_true rfl⟩ ⟨Nat.le_refl _, Nat.le_refl _⟩ rfl rfl (Nat.le_of_ble_eq_true rfl) dX0_renew_24 (fun E x t h => h.elim) (fun v t h => ?_)
  obtain ⟨q, rfl, hb⟩ := h
  refine TW.at ?_ hb
  refine tk_aast6 X hp h1 h5 dX0_renew_27 ?_
  exact tx_vret X hr (Nat.le_refl _) (Nat.le_refl _) (fun t b => ⟨rfl, q, b⟩) dX0_renew_28
end KOC
