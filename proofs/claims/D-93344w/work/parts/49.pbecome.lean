/-! a town becomes another -/
set_option maxRecDepth 100000
def szT (k : Nat) : Nat := if k < 10 then 6 else if k < 12 then 8 else if k < 15 then 6 else 12
theorem km_sz : ∀ i, i < 106 → i ≠ 1 → i ≠ 5 → ((km i).1 = 40 ∧ (km i).2 < 4) ∨ (45 ≤ (km i).1 ∧ (km i).1 < 58 ∧ (km i).2 < szT ((km i).1 - 40)) := by decide +kernel
theorem cpy_all (s : St) (a b n : Nat) {x : Int32} (hx : x = nI n) (hn : n ≤ 12) : cpy s a n b n 0 0 x = some (upA s b (va_cpy (s a) (s b) 0 0 n)) := by
  subst hx
  unfold cpy
  have z0 : (0 : Int32).toNatClampNeg = 0 := rfl
  rw [nI_clamp (by omega), z0, if_neg]
  intro q
  rcases q with q | q | q | q | q
  · exact absurd q (by decide)
  · exact absurd q (by decide)
  · exact nI_pos (by omega) q
  · omega
  · omega
/-- so far copied: from the base sb to the base db, rows below m -/
def InB (sb db m : Nat) (g g' : St) : Prop := (∀ b, ¬ (db ≤ b ∧ b < db + 20) → g' b = g b) ∧ (∀ i, i < 5 → g' db i = g sb i) ∧ ∀ k, 5 ≤ k → k < m → ∀ j, j < szT k → g' (db + k) j = g (sb + k) j
theorem InB.step {sb db m : Nat} {g g' : St} (h : InB sb db m g g') (hs : sb + 20 ≤ db ∨ db + 20 ≤ sb) (h5 : 5 ≤ m) (hm : m < 18) : InB sb db (m + 1) g (upA g' (db + m) (va_cpy (g' (sb + m)) (g' (db + m)) 0 0 (szT m))) := by
  refine ⟨fun b hb => ?_, fun i hi => ?_, fun k k5 km j hj => ?_⟩
  · rw [upA_n (by omega)]
    exact h.1 b hb
  · rw [upA_n (by omega)]
    exact h.2.1 i hi
  · by_cases e : k = m
    · subst e
      rw [upA_s, pk_cpy_in (by omega) (by omega), show 0 + (j - 0) = j by omega, h.1 (sb + k) (by omega)]
    · rw [upA_n (by omega)]
      exact h.2.2 k k5 (by omega) j hj
theorem InB.start (sb db : Nat) (g : St) (hs : sb + 20 ≤ db ∨ db + 20 ≤ sb) : InB sb db 5 g (up2 (up2 (up2 (up2 (up2 g db 0 (g sb 0)) db 1 (g sb 1)) db 2 (g sb 2)) db 3 (g sb 3)) db 4 (g sb 4)) := by
  refine ⟨fun b hb => ?_, fun i hi => ?_, fun k k5 km => by omega⟩
  · have : b ≠ db := by omega
    rw [up2_o this, up2_o this, up2_o this, up2_o this, up2_o this]
  · match i, hi with
    | 0, _ => simp [up2_eq]
    | 1, _ => simp [up2_eq]
    | 2, _ => simp [up2_eq]
    | 3, _ => simp [up2_eq]
    | 4, _ => simp [up2_eq]
theorem bec53 (g : St) : ∃ g', kF_X3_become_5_3 g = some g' ∧ InB 40 80 18 g g' := by
  have pf1 : ∀ (s : St) (b i : Nat) (v : Int32), pf s b i v = some (up2 s b i v) := fun _ _ _ _ => rfl
  have o : ∀ (s : St) (i : Nat) (v : Int32) (j : Nat), up2 s 80 i v 40 j = s 40 j := fun s i v j => by rw [up2_o (by decide)]
  unfold kF_X3_become_5_3
  rw [pf1, Option.bind_some, pf1, Option.bind_some, pf1, Option.bind_some, pf1, Option.bind_some, pf1, Option.bind_some]
  have h5 := InB.start 40 80 g (by omega)
  simp only [o]
  generalize up2 (up2 (up2 (up2 (up2 g 80 0 (g 40 0)) 80 1 (g 40 1)) 80 2 (g 40 2)) 80 3 (g 40 3)) 80 4 (g 40 4) = g5 at h5
  have s : 40 + 20 ≤ 80 ∨ 80 + 20 ≤ 40 := by omega
  rw [cpy_all g5 45 85 6 (x := 6) rfl (by omega), Option.bind_some]
  have h6 : InB 40 80 6 g (upA g5 85 (va_cpy (g5 45) (g5 85) 0 0 6)) := h5.step s (by omega) (by omega)
  generalize upA g5 85 (va_cpy (g5 45) (g5 85) 0 0 6) = g6 at h6
  rw [cpy_all g6 46 86 6 (x := 6) rfl (by omega), Option.bind_some]
  have h7 : InB 40 80 7 g (upA g6 86 (va_cpy (g6 46) (g6 86) 0 0 6)) := h6.step s (by omega) (by omega)
  generalize upA g6 86 (va_cpy (g6 46) (g6 86) 0 0 6) = g7 at h7
  rw [cpy_all g7 47 87 6 (x := 6) rfl (by omega), Option.bind_some]
  have h8 : InB 40 80 8 g (upA g7 87 (va_cpy (g7 47) (g7 87) 0 0 6)) := h7.step s (by omega) (by omega)
  generalize upA g7 87 (va_cpy (g7 47) (g7 87) 0 0 6) = g8 at h8
  rw [cpy_all g8 48 88 6 (x := 6) rfl (by omega), Option.bind_some]
  have h9 : InB 40 80 9 g (upA g8 88 (va_cpy (g8 48) (g8 88) 0 0 6)) := h8.step s (by omega) (by omega)
  generalize upA g8 88 (va_cpy (g8 48) (g8 88) 0 0 6) = g9 at h9
  rw [cpy_all g9 49 89 6 (x := 6) rfl (by omega), Option.bind_some]
  have h10 : InB 40 80 10 g (upA g9 89 (va_cpy (g9 49) (g9 89) 0 0 6)) := h9.step s (by omega) (by omega)
  generalize upA g9 89 (va_cpy (g9 49) (g9 89) 0 0 6) = g10 at h10
  rw [cpy_all g10 50 90 8 (x := 8) rfl (by omega), Option.bind_some]
  have h11 : InB 40 80 11 g (upA g10 90 (va_cpy (g10 50) (g10 90) 0 0 8)) := h10.step s (by omega) (by omega)
  generalize upA g10 90 (va_cpy (g10 50) (g10 90) 0 0 8) = g11 at h11
  rw [cpy_all g11 51 91 8 (x := 8) rfl (by omega), Option.bind_some]
  have h12 : InB 40 80 12 g (upA g11 91 (va_cpy (g11 51) (g11 91) 0 0 8)) := h11.step s (by omega) (by omega)
  generalize upA g11 91 (va_cpy (g11 51) (g11 91) 0 0 8) = g12 at h12
  rw [cpy_all g12 52 92 6 (x := 6) rfl (by omega), Option.bind_some]
  have h13 : InB 40 80 13 g (upA g12 92 (va_cpy (g12 52) (g12 92) 0 0 6)) := h12.step s (by omega) (by omega)
  generalize upA g12 92 (va_cpy (g12 52) (g12 92) 0 0 6) = g13 at h13
  rw [cpy_all g13 53 93 6 (x := 6) rfl (by omega), Option.bind_some]
  have h14 : InB 40 80 14 g (upA g13 93 (va_cpy (g13 53) (g13 93) 0 0 6)) := h13.step s (by omega) (by omega)
  generalize upA g13 93 (va_cpy (g13 53) (g13 93) 0 0 6) = g14 at h14
  rw [cpy_all g14 54 94 6 (x := 6) rfl (by omega), Option.bind_some]
  have h15 : InB 40 80 15 g (upA g14 94 (va_cpy (g14 54) (g14 94) 0 0 6)) := h14.step s (by omega) (by omega)
  generalize upA g14 94 (va_cpy (g14 54) (g14 94) 0 0 6) = g15 at h15
  rw [cpy_all g15 55 95 12 (x := 12) rfl (by omega), Option.bind_some]
  have h16 : InB 40 80 16 g (upA g15 95 (va_cpy (g15 55) (g15 95) 0 0 12)) := h15.step s (by omega) (by omega)
  generalize upA g15 95 (va_cpy (g15 55) (g15 95) 0 0 12) = g16 at h16
  rw [cpy_all g16 56 96 12 (x := 12) rfl (by omega), Option.bind_some]
  have h17 : InB 40 80 17 g (upA g16 96 (va_cpy (g16 56) (g16 96) 0 0 12)) := h16.step s (by omega) (by omega)
  generalize upA g16 96 (va_cpy (g16 56) (g16 96) 0 0 12) = g17 at h17
  rw [cpy_all g17 57 97 12 (x := 12) rfl (by omega), Option.bind_some]
  exact ⟨_, rfl, h17.step s (by omega) (by omega)⟩
theorem bec35 (g : St) : ∃ g', kF_X3_become_3_5 g = some g' ∧ InB 80 40 18 g g' := by
  have pf1 : ∀ (s : St) (b i : Nat) (v : Int32), pf s b i v = some (up2 s b i v) := fun _ _ _ _ => rfl
  have o : ∀ (s : St) (i : Nat) (v : Int32) (j : Nat), up2 s 40 i v 80 j = s 80 j := fun s i v j => by rw [up2_o (by decide)]
  unfold kF_X3_become_3_5
  rw [pf1, Option.bind_some, pf1, Option.bind_some, pf1, Option.bind_some, pf1, Option.bind_some, pf1, Option.bind_some]
  have h5 := InB.start 80 40 g (by omega)
  simp only [o]
  generalize up2 (up2 (up2 (up2 (up2 g 40 0 (g 80 0)) 40 1 (g 80 1)) 40 2 (g 80 2)) 40 3 (g 80 3)) 40 4 (g 80 4) = g5 at h5
  have s : 80 + 20 ≤ 40 ∨ 40 + 20 ≤ 80 := by omega
  rw [cpy_all g5 85 45 6 (x := 6) rfl (by omega), Option.bind_some]
  have h6 : InB 80 40 6 g (upA g5 45 (va_cpy (g5 85) (g5 45) 0 0 6)) := h5.step s (by omega) (by omega)
  generalize upA g5 45 (va_cpy (g5 85) (g5 45) 0 0 6) = g6 at h6
  rw [cpy_all g6 86 46 6 (x := 6) rfl (by omega), Option.bind_some]
  have h7 : InB 80 40 7 g (upA g6 46 (va_cpy (g6 86) (g6 46) 0 0 6)) := h6.step s (by omega) (by omega)
  generalize upA g6 46 (va_cpy (g6 86) (g6 46) 0 0 6) = g7 at h7
  rw [cpy_all g7 87 47 6 (x := 6) rfl (by omega), Option.bind_some]
  have h8 : InB 80 40 8 g (upA g7 47 (va_cpy (g7 87) (g7 47) 0 0 6)) := h7.step s (by omega) (by omega)
  generalize upA g7 47 (va_cpy (g7 87) (g7 47) 0 0 6) = g8 at h8
  rw [cpy_all g8 88 48 6 (x := 6) rfl (by omega), Option.bind_some]
  have h9 : InB 80 40 9 g (upA g8 48 (va_cpy (g8 88) (g8 48) 0 0 6)) := h8.step s (by omega) (by omega)
  generalize upA g8 48 (va_cpy (g8 88) (g8 48) 0 0 6) = g9 at h9
  rw [cpy_all g9 89 49 6 (x := 6) rfl (by omega), Option.bind_some]
  have h10 : InB 80 40 10 g (upA g9 49 (va_cpy (g9 89) (g9 49) 0 0 6)) := h9.step s (by omega) (by omega)
  generalize upA g9 49 (va_cpy (g9 89) (g9 49) 0 0 6) = g10 at h10
  rw [cpy_all g10 90 50 8 (x := 8) rfl (by omega), Option.bind_some]
  have h11 : InB 80 40 11 g (upA g10 50 (va_cpy (g10 90) (g10 50) 0 0 8)) := h10.step s (by omega) (by omega)
  generalize upA g10 50 (va_cpy (g10 90) (g10 50) 0 0 8) = g11 at h11
  rw [cpy_all g11 91 51 8 (x := 8) rfl (by omega), Option.bind_some]
  have h12 : InB 80 40 12 g (upA g11 51 (va_cpy (g11 91) (g11 51) 0 0 8)) := h11.step s (by omega) (by omega)
  generalize upA g11 51 (va_cpy (g11 91) (g11 51) 0 0 8) = g12 at h12
  rw [cpy_all g12 92 52 6 (x := 6) rfl (by omega), Option.bind_some]
  have h13 : InB 80 40 13 g (upA g12 52 (va_cpy (g12 92) (g12 52) 0 0 6)) := h12.step s (by omega) (by omega)
  generalize upA g12 52 (va_cpy (g12 92) (g12 52) 0 0 6) = g13 at h13
  rw [cpy_all g13 93 53 6 (x := 6) rfl (by omega), Option.bind_some]
  have h14 : InB 80 40 14 g (upA g13 53 (va_cpy (g13 93) (g13 53) 0 0 6)) := h13.step s (by omega) (by omega)
  generalize upA g13 53 (va_cpy (g13 93) (g13 53) 0 0 6) = g14 at h14
  rw [cpy_all g14 94 54 6 (x := 6) rfl (by omega), Option.bind_some]
  have h15 : InB 80 40 15 g (upA g14 54 (va_cpy (g14 94) (g14 54) 0 0 6)) := h14.step s (by omega) (by omega)
  generalize upA g14 54 (va_cpy (g14 94) (g14 54) 0 0 6) = g15 at h15
  rw [cpy_all g15 95 55 12 (x := 12) rfl (by omega), Option.bind_some]
  have h16 : InB 80 40 16 g (upA g15 55 (va_cpy (g15 95) (g15 55) 0 0 12)) := h15.step s (by omega) (by omega)
  generalize upA g15 55 (va_cpy (g15 95) (g15 55) 0 0 12) = g16 at h16
  rw [cpy_all g16 96 56 12 (x := 12) rfl (by omega), Option.bind_some]
  have h17 : InB 80 40 17 g (upA g16 56 (va_cpy (g16 96) (g16 56) 0 0 12)) := h16.step s (by omega) (by omega)
  generalize upA g16 56 (va_cpy (g16 96) (g16 56) 0 0 12) = g17 at h17
  rw [cpy_all g17 97 57 12 (x := 12) rfl (by omega), Option.bind_some]
  exact ⟨_, rfl, h17.step s (by omega) (by omega)⟩
theorem bec43 (g : St) : ∃ g', kF_X3_become_4_3 g = some g' ∧ InB 40 60 18 g g' := by
  have pf1 : ∀ (s : St) (b i : Nat) (v : Int32), pf s b i v = some (up2 s b i v) := fun _ _ _ _ => rfl
  have o : ∀ (s : St) (i : Nat) (v : Int32) (j : Nat), up2 s 60 i v 40 j = s 40 j := fun s i v j => by rw [up2_o (by decide)]
  unfold kF_X3_become_4_3
  rw [pf1, Option.bind_some, pf1, Option.bind_some, pf1, Option.bind_some, pf1, Option.bind_some, pf1, Option.bind_some]
  have h5 := InB.start 40 60 g (by omega)
  simp only [o]
  generalize up2 (up2 (up2 (up2 (up2 g 60 0 (g 40 0)) 60 1 (g 40 1)) 60 2 (g 40 2)) 60 3 (g 40 3)) 60 4 (g 40 4) = g5 at h5
  have s : 40 + 20 ≤ 60 ∨ 60 + 20 ≤ 40 := by omega
  rw [cpy_all g5 45 65 6 (x := 6) rfl (by omega), Option.bind_some]
  have h6 : InB 40 60 6 g (upA g5 65 (va_cpy (g5 45) (g5 65) 0 0 6)) := h5.step s (by omega) (by omega)
  generalize upA g5 65 (va_cpy (g5 45) (g5 65) 0 0 6) = g6 at h6
  rw [cpy_all g6 46 66 6 (x := 6) rfl (by omega), Option.bind_some]
  have h7 : InB 40 60 7 g (upA g6 66 (va_cpy (g6 46) (g6 66) 0 0 6)) := h6.step s (by omega) (by omega)
  generalize upA g6 66 (va_cpy (g6 46) (g6 66) 0 0 6) = g7 at h7
  rw [cpy_all g7 47 67 6 (x := 6) rfl (by omega), Option.bind_some]
  have h8 : InB 40 60 8 g (upA g7 67 (va_cpy (g7 47) (g7 67) 0 0 6)) := h7.step s (by omega) (by omega)
  generalize upA g7 67 (va_cpy (g7 47) (g7 67) 0 0 6) = g8 at h8
  rw [cpy_all g8 48 68 6 (x := 6) rfl (by omega), Option.bind_some]
  have h9 : InB 40 60 9 g (upA g8 68 (va_cpy (g8 48) (g8 68) 0 0 6)) := h8.step s (by omega) (by omega)
  generalize upA g8 68 (va_cpy (g8 48) (g8 68) 0 0 6) = g9 at h9
  rw [cpy_all g9 49 69 6 (x := 6) rfl (by omega), Option.bind_some]
  have h10 : InB 40 60 10 g (upA g9 69 (va_cpy (g9 49) (g9 69) 0 0 6)) := h9.step s (by omega) (by omega)
  generalize upA g9 69 (va_cpy (g9 49) (g9 69) 0 0 6) = g10 at h10
  rw [cpy_all g10 50 70 8 (x := 8) rfl (by omega), Option.bind_some]
  have h11 : InB 40 60 11 g (upA g10 70 (va_cpy (g10 50) (g10 70) 0 0 8)) := h10.step s (by omega) (by omega)
  generalize upA g10 70 (va_cpy (g10 50) (g10 70) 0 0 8) = g11 at h11
  rw [cpy_all g11 51 71 8 (x := 8) rfl (by omega), Option.bind_some]
  have h12 : InB 40 60 12 g (upA g11 71 (va_cpy (g11 51) (g11 71) 0 0 8)) := h11.step s (by omega) (by omega)
  generalize upA g11 71 (va_cpy (g11 51) (g11 71) 0 0 8) = g12 at h12
  rw [cpy_all g12 52 72 6 (x := 6) rfl (by omega), Option.bind_some]
  have h13 : InB 40 60 13 g (upA g12 72 (va_cpy (g12 52) (g12 72) 0 0 6)) := h12.step s (by omega) (by omega)
  generalize upA g12 72 (va_cpy (g12 52) (g12 72) 0 0 6) = g13 at h13
  rw [cpy_all g13 53 73 6 (x := 6) rfl (by omega), Option.bind_some]
  have h14 : InB 40 60 14 g (upA g13 73 (va_cpy (g13 53) (g13 73) 0 0 6)) := h13.step s (by omega) (by omega)
  generalize upA g13 73 (va_cpy (g13 53) (g13 73) 0 0 6) = g14 at h14
  rw [cpy_all g14 54 74 6 (x := 6) rfl (by omega), Option.bind_some]
  have h15 : InB 40 60 15 g (upA g14 74 (va_cpy (g14 54) (g14 74) 0 0 6)) := h14.step s (by omega) (by omega)
  generalize upA g14 74 (va_cpy (g14 54) (g14 74) 0 0 6) = g15 at h15
  rw [cpy_all g15 55 75 12 (x := 12) rfl (by omega), Option.bind_some]
  have h16 : InB 40 60 16 g (upA g15 75 (va_cpy (g15 55) (g15 75) 0 0 12)) := h15.step s (by omega) (by omega)
  generalize upA g15 75 (va_cpy (g15 55) (g15 75) 0 0 12) = g16 at h16
  rw [cpy_all g16 56 76 12 (x := 12) rfl (by omega), Option.bind_some]
  have h17 : InB 40 60 17 g (upA g16 76 (va_cpy (g16 56) (g16 76) 0 0 12)) := h16.step s (by omega) (by omega)
  generalize upA g16 76 (va_cpy (g16 56) (g16 76) 0 0 12) = g17 at h17
  rw [cpy_all g17 57 77 12 (x := 12) rfl (by omega), Option.bind_some]
  exact ⟨_, rfl, h17.step s (by omega) (by omega)⟩
/-- the town at an offset holds T -/
def KO (off : Nat) (g : St) (T : Tn) (z : Int32) : Prop := (∀ i, i < 106 → i ≠ 1 → i ≠ 5 → g ((km i).1 + off) (km i).2 = nI (T i)) ∧ g (40 + off) 4 = z
section BEC
variable {g0 g : St} {T : Tn} {z : Int32} {ab : Nat}
theorem KO.into {off : Nat} {g' : St} (k : KR g0 g T z ab) (h : InB 40 (40 + off) 18 g g') : KO off g' T z := by
  refine ⟨fun i a b c => ?_, ?_⟩
  · have hk := k.1 i a b c
    rcases km_sz i a b c with ⟨e1, e2⟩ | ⟨e1, e2, e3⟩
    · rw [e1, h.2.1 _ (by omega), ← e1]
      exact hk
    · have := h.2.2 ((km i).1 - 40) (by omega) (by omega) (km i).2 e3
      rw [show 40 + off + ((km i).1 - 40) = (km i).1 + off by omega, show 40 + ((km i).1 - 40) = (km i).1 by omega] at this
      rw [this]
      exact hk
  · rw [h.2.1 4 (by omega)]
    exact k.2.1
theorem KR.from {T' : Tn} {z' : Int32} {g' : St} (k : KR g0 g T' z' ab) {off : Nat} (ko : KO off g T z) (h : InB (40 + off) 40 18 g g') : KR g0 g' T z ab := by
  refine ⟨fun i a b c => ?_, ?_, ?_, fun b i hs => ?_⟩
  · have hk := ko.1 i a b c
    rcases km_sz i a b c with ⟨e1, e2⟩ | ⟨e1, e2, e3⟩
    · rw [e1] at hk ⊢
      rw [h.2.1 _ (by omega)]
      exact hk
    · have := h.2.2 ((km i).1 - 40) (by omega) (by omega) (km i).2 e3
      rw [show 40 + off + ((km i).1 - 40) = (km i).1 + off by omega, show 40 + ((km i).1 - 40) = (km i).1 by omega] at this
      rw [this]
      exact hk
  · rw [h.2.1 4 (by omega)]
    exact ko.2
  · rw [h.1 0 (by omega)]
    exact k.2.2.1
  · have e : ¬ (40 ≤ b ∧ b < 40 + 20) := by
      simp [kS] at hs
      omega
    rw [h.1 b e]
    exact k.2.2.2 b i hs
/-- tried is scratch -/
theorem KR.tried {g' : St} (k : KR g0 g T z ab) (h : InB 40 80 18 g g') : KR g0 g' T z ab := by
  refine ⟨fun i a b c => ?_, ?_, ?_, fun b i hs => ?_⟩
  · have := km_b i a
    rw [h.1 _ (by omega)]
    exact k.1 i a b c
  · rw [h.1 40 (by omega)]
    exact k.2.1
  · rw [h.1 0 (by omega)]
    exact k.2.2.1
  · have e : ¬ (80 ≤ b ∧ b < 80 + 20) := by
      simp [kS, kN] at hs
      omega
    rw [h.1 b e]
    exact k.2.2.2 b i hs
end BEC
