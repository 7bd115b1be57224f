/-! the reference's fits; span, liar -/
set_option maxRecDepth 100000
theorem cnt_fi (P : Nat → Bool) : ∀ n c, cnt P n c = 0 ↔ fi P n c = none
  | 0, c => ⟨fun _ => rfl, fun _ => rfl⟩
  | n + 1, c => by
    have ih := cnt_fi P n (c + 1)
    unfold cnt fi
    by_cases q : P c = true
    · rw [if_pos q, if_pos q]
      constructor
      · intro h
        omega
      · intro h
        cases h
    · rw [if_neg q, if_neg q, Nat.zero_add]
      exact ih
theorem cnt_le_n (P : Nat → Bool) : ∀ n c, cnt P n c ≤ n
  | 0, c => Nat.le_refl _
  | n + 1, c => by
    have ih := cnt_le_n P n (c + 1)
    unfold cnt
    split <;> omega
section SPN
variable {E : EE} {L : RLt} {U : Nat → Int32} {en : Nat → Nat} {g0 h0 : St} {z : Int32} {T : Tn}
def accF (T : Tn) (a : Int32) (h : St) (n : Nat) : Prop := h 0 20 = nI (cnt (ft T a) n 0) ∧ ∀ l, fi (ft T a) n 0 = some l → h 0 21 = nI (l / 51) ∧ h 0 22 = nI (l % 51)
theorem tw_isFit {h : St} (k : TR h0 h T z U 6) (w : WF T) (a : Int32) {t f : Nat} (ht : t ≤ 3) (hf : f ≤ 50) : tF_isFit h (nI t) (nI f) a = some (zI (ft T a (51 * t + f))) := by
  have h3 : T 3 ≤ 6 := w.2.2.1
  have e51 : (51 * t + f) / 51 = t ∧ (51 * t + f) % 51 = f := by omega
  unfold tF_isFit
  obtain ⟨r, e1, e2⟩ := iter_inx (body := fun s1 =>
    (rd (h 1) 340 (3 : Int32)).bind fun x3 =>
    if x3 ≤ s1 then
      some (.inr (1 : Int32))
    else
      if s1 = a then
        some (.inl (s1 + (1 : Int32)))
      else
        (rd (h 1) 340 (((52 : Int32) + ((3 : Int32) * s1)) + (1 : Int32))).bind fun x5 =>
        (rd (h 1) 340 ((52 : Int32) + ((3 : Int32) * s1))).bind fun x6 =>
        (rd (h 1) 340 (((52 : Int32) + ((3 : Int32) * s1)) + (2 : Int32))).bind fun x7 =>
        if ((nI t * (tF_atLeast (x5 - x6))) + nI f) = x7 then
          some (.inl (s1 + (1 : Int32)))
        else
          some (.inr (0 : Int32))) (fun i s => s = nI i ∧ ∀ r, r < i → ftR T a (51 * t + f) r = true) (fun r => r = zI (ft T a (51 * t + f))) (T 3)
    (by
      rintro i hi s ⟨rfl, lo⟩
      have i6 : i < 6 := by omega
      obtain ⟨w1, w2, w3⟩ := w.2.2.2.2.2.2.2.1 i i6
      have hm : t * (T (53 + 3 * i) - T (52 + 3 * i)) ≤ 3 * 99 := Nat.mul_le_mul ht (by omega)
      have e52 : (52 : Int32) + (3 : Int32) * nI i = nI (52 + 3 * i) := by rw [show (3 : Int32) = nI 3 from rfl, pk_mul, show (52 : Int32) = nI 52 from rfl, nI_add]
      have e53 : nI (52 + 3 * i) + 1 = nI (53 + 3 * i) := by rw [nI_1]; congr 1; omega
      have e54 : nI (52 + 3 * i) + 2 = nI (54 + 3 * i) := by rw [show (2 : Int32) = nI 2 from rfl, nI_add]; congr 1; omega
      rw [T_rep k, Option.bind_some, if_neg (nI_ge hi (by omega))]
      by_cases ea : nI i = a
      · left
        refine ⟨nI (i + 1), by rw [if_pos ea, nI_1], rfl, fun r hr => ?_⟩
        by_cases er : r = i
        · subst er
          unfold ftR
          simp [ea]
        · exact lo r (by omega)
      · rw [if_neg ea, e52, e53, e54, k.rdT (53 + 3 * i) rfl (by omega) (by omega) (by omega), Option.bind_some, k.rdT (52 + 3 * i) rfl (by omega) (by omega) (by omega), Option.bind_some, k.rdT (54 + 3 * i) rfl (by omega) (by omega) (by omega), Option.bind_some, al_n (by omega) (by omega), pk_mul, nI_add, ie (by omega) (by omega)]
        by_cases es : t * (T (53 + 3 * i) - T (52 + 3 * i)) + f = T (54 + 3 * i)
        · left
          refine ⟨nI (i + 1), by rw [if_pos es, nI_1], rfl, fun r hr => ?_⟩
          by_cases er : r = i
          · subst er
            unfold ftR
            rw [e51.1, e51.2]
            simp [es]
          · exact lo r (by omega)
        · right
          have hft : ft T a (51 * t + f) = false := by
            unfold ft
            rw [decide_eq_false_iff_not]
            intro q
            have := q i hi
            unfold ftR at this
            rw [e51.1, e51.2] at this
            simp [ea, es] at this
          refine ⟨_, by rw [if_neg es], ?_⟩
          rw [hft]
          rfl)
    (by
      rintro s ⟨rfl, lo⟩
      have hft : ft T a (51 * t + f) = true := by
        unfold ft
        rw [decide_eq_true_iff]
        exact lo
      refine ⟨_, by rw [T_rep k, Option.bind_some, if_pos (nI_le (Nat.le_refl _) (by omega))], ?_⟩
      rw [hft]
      rfl) (T 3) 0 (0 : Int32) (by omega) ⟨rfl, fun r hr => by omega⟩
  rw [e1, e2]
theorem tw_fits {h : St} (k : TR h0 h T z U 6) (w : WF T) (a : Int32) : ∃ h', tF_findFits h a = some h' ∧ TR h0 h' T z U 6 ∧ accF T a h' 204 := by
  have pf1 : ∀ (s : St) (i : Nat) (v : Int32), pf s 0 i v = some (up2 s 0 i v) := fun _ _ _ => rfl
  unfold tF_findFits
  rw [pf1, Option.bind_some]
  have k1 := k.scr (b := 0) (i := 20) 0 rfl
  obtain ⟨t, e1, e2⟩ := iter_inv (body := un2 fun s2a s2b =>
    if (4 : Int32) ≤ s2b then
      some (.inr s2a)
    else
      iter (L := St × Int32) (T := ((St × Int32) ⊕ (St))) (un2 fun s5a s5b =>
        if (50 : Int32) < s5b then
          some (.inr (.inl (s5a, (s2b + (1 : Int32)))))
        else
          (tF_isFit s5a s2b s5b a).bind fun x8 =>
          if x8 = 0 then
            some (.inl (s5a, (s5b + (1 : Int32))))
          else
            Option.bind (α := Int32) (β := ((St × Int32) ⊕ (((St × Int32) ⊕ (St)))))
              (if (s5a 0 20) = 0 then
                some s2b
              else
                some (s5a 0 21))
              (fun j10 => (pf s5a 0 21 j10).bind fun g12 =>
              Option.bind (α := Int32) (β := ((St × Int32) ⊕ (((St × Int32) ⊕ (St)))))
                (if (g12 0 20) = 0 then
                  some s5b
                else
                  some (g12 0 22))
                (fun j13 => (pf g12 0 22 j13).bind fun g15 =>
                (pf g15 0 20 ((g15 0 20) + (1 : Int32))).bind fun g16 =>
                some (.inl (g16, (s5b + (1 : Int32))))))) (s2a, (0 : Int32))) (fun i s => ∃ h', s = (h', nI i) ∧ TR h0 h' T z U 6 ∧ accF T a h' (51 * i)) (fun r => TR h0 r T z U 6 ∧ accF T a r 204) 4
    (by
      rintro i hi s ⟨h1, rfl, k2, ac⟩
      dsimp only [un2]
      rw [if_neg (show ¬ (4 : Int32) ≤ nI i from nI_ge (b := 4) hi (by omega))]
      obtain ⟨r, f1, f2⟩ := iter_inv (body := un2 fun s5a s5b =>
        if (50 : Int32) < s5b then
          some (.inr (.inl (s5a, (nI i + (1 : Int32)))))
        else
          (tF_isFit s5a (nI i) s5b a).bind fun x8 =>
          if x8 = 0 then
            some (.inl (s5a, (s5b + (1 : Int32))))
          else
            Option.bind (α := Int32) (β := ((St × Int32) ⊕ (((St × Int32) ⊕ (St)))))
              (if (s5a 0 20) = 0 then
                some (nI i)
              else
                some (s5a 0 21))
              (fun j10 => (pf s5a 0 21 j10).bind fun g12 =>
              Option.bind (α := Int32) (β := ((St × Int32) ⊕ (((St × Int32) ⊕ (St)))))
                (if (g12 0 20) = 0 then
                  some s5b
                else
                  some (g12 0 22))
                (fun j13 => (pf g12 0 22 j13).bind fun g15 =>
                (pf g15 0 20 ((g15 0 20) + (1 : Int32))).bind fun g16 =>
                some (.inl (g16, (s5b + (1 : Int32))))))) (fun f s => ∃ h', s = (h', nI f) ∧ TR h0 h' T z U 6 ∧ accF T a h' (51 * i + f)) (fun r => ∃ h', r = (.inl (h', nI (i + 1)) : (St × Int32) ⊕ St) ∧ TR h0 h' T z U 6 ∧ accF T a h' (51 * i + 51)) 51
        (by
          rintro f hf s ⟨h2, rfl, k3, ac2⟩
          dsimp only [un2]
          obtain ⟨c1, c2⟩ := ac2
          have hcl := cnt_le_n (ft T a) (51 * i + f) 0
          have hcf := cnt_fi (ft T a) (51 * i + f) 0
          have s1 := cnt_snoc (ft T a) (51 * i + f) 0
          have s2 := fi_snoc (ft T a) (51 * i + f) 0
          rw [Nat.zero_add] at s1 s2
          rw [if_neg (show ¬ (50 : Int32) < nI f from nI_nlt (a := 50) (by omega) (by omega)), tw_isFit k3 w a (by omega) (by omega), Option.bind_some, iz]
          cases q : ft T a (51 * i + f) with
          | false =>
            rw [q, if_neg (by decide)] at s1 s2
            rw [if_neg (by decide), nI_1]
            refine ⟨_, rfl, h2, rfl, k3, by rw [show 51 * i + (f + 1) = 51 * i + f + 1 by omega, s1]; exact c1, fun l hl => ?_⟩
            rw [show 51 * i + (f + 1) = 51 * i + f + 1 by omega, s2] at hl
            cases qf : fi (ft T a) (51 * i + f) 0 with
            | none => rw [qf] at hl; cases hl
            | some l' => rw [qf] at hl; cases hl; exact c2 l qf
          | true =>
            rw [q, if_pos rfl] at s1 s2
            rw [if_pos rfl, nI_1]
            by_cases e0 : cnt (ft T a) (51 * i + f) 0 = 0
            · have z0 : h2 0 20 = 0 := by rw [c1, e0]; rfl
              rw [if_pos z0, Option.bind_some, pf1, Option.bind_some, if_pos (show up2 h2 0 21 (nI i) 0 20 = 0 by rw [up2_n (by omega)]; exact z0), Option.bind_some, pf1, Option.bind_some, pf1, Option.bind_some]
              refine ⟨_, rfl, _, rfl, ((k3.scr (b := 0) (i := 21) _ rfl).scr (b := 0) (i := 22) _ rfl).scr (b := 0) (i := 20) _ rfl, ?_, fun l hl => ?_⟩
              · rw [up2_s, up2_n (by omega), up2_n (by omega), c1, nI_1, show 51 * i + (f + 1) = 51 * i + f + 1 by omega, s1]
              · rw [show 51 * i + (f + 1) = 51 * i + f + 1 by omega, s2, hcf.mp e0] at hl
                cases hl
                rw [up2_n (by omega), up2_n (by omega), up2_s, up2_n (by omega), up2_s]
                exact ⟨by congr 1; omega, by congr 1; omega⟩
            · have z0 : ¬ h2 0 20 = 0 := by rw [c1]; exact nI_ne0 (by omega) (by omega)
              rw [if_neg z0, Option.bind_some, pf1, Option.bind_some, if_neg (show ¬ up2 h2 0 21 (h2 0 21) 0 20 = 0 by rw [up2_n (by omega)]; exact z0), Option.bind_some, pf1, Option.bind_some, pf1, Option.bind_some]
              refine ⟨_, rfl, _, rfl, ((k3.scr (b := 0) (i := 21) _ rfl).scr (b := 0) (i := 22) _ rfl).scr (b := 0) (i := 20) _ rfl, ?_, fun l hl => ?_⟩
              · rw [up2_s, up2_n (by omega), up2_n (by omega), c1, nI_1, show 51 * i + (f + 1) = 51 * i + f + 1 by omega, s1]
              · rw [show 51 * i + (f + 1) = 51 * i + f + 1 by omega, s2] at hl
                cases qf : fi (ft T a) (51 * i + f) 0 with
                | none => exact absurd (hcf.mpr qf) e0
                | some l' =>
                  rw [qf] at hl
                  cases hl
                  rw [up2_n (by omega), up2_n (by omega), up2_s, up2_n (by omega), up2_s, up2_n (by omega)]
                  exact c2 l qf)
        (by
          rintro s ⟨h2, rfl, k3, ac2⟩
          refine ⟨_, ?_, h2, rfl, k3, ac2⟩
          dsimp only [un2]
          rw [if_pos (by decide), nI_1]) 51 0 (h1, (0 : Int32)) (by omega) ⟨h1, rfl, k2, ac⟩
      obtain ⟨h2, rfl, k3, ac2⟩ := f2
      rw [f1]
      exact ⟨_, rfl, h2, rfl, k3, by rw [show 51 * (i + 1) = 51 * i + 51 by omega]; exact ac2⟩)
    (by
      rintro s ⟨h1, rfl, k2, ac⟩
      exact ⟨h1, rfl, k2, ac⟩) 4 0 (up2 h 0 20 0, (0 : Int32)) (by omega) ⟨_, rfl, k1, up2_s, fun l hl => by cases hl⟩
  exact ⟨t, e1, e2.1, e2.2⟩
theorem pb_span {g h : St} (j : JT E L U en g0 h0 T z g h) (a1 : Int32) : Pb E L U en g0 h0 (kF_span g a1) (tF_span h a1) := by
  unfold kF_span tF_span
  rw [show tF_in a1.toInt64 (0 : Int64) (2 : Int64) = kF_isIn a1 0 2 from tin a1 0 2]
  rcases isI_c a1 (m := 2) (M := 2) rfl (by omega) with q | ⟨c, hc, rfl, q⟩
  · rw [q, if_pos rfl, if_pos rfl]
    exact Pb.same j rfl rfl
  rw [q, if_neg c10, if_neg c10]
  obtain ⟨g', b1, b2, b3⟩ := kw_fits j.k j.w (-1)
  obtain ⟨h', d1, d2, d3, d4⟩ := tw_fits j.t j.w (-1)
  have hcl := cnt_le_n (ft T (-1)) 204 0
  have hcf := cnt_fi (ft T (-1)) 204 0
  rw [b1, d1, Option.bind_some, Option.bind_some, d3]
  dsimp only [un2]
  rw [ie0 (by omega), ie0 (by omega), ie0 (by omega), ie0 (by omega)]
  by_cases e0 : c = 0
  · rw [if_pos e0, if_pos e0]
    exact Pb.to j rfl rfl b2 d2
  rw [if_neg e0, if_neg e0]
  by_cases e1 : cnt (ft T (-1)) 204 0 = 0
  · rw [if_pos e1, if_pos e1]
    exact Pb.to j rfl rfl b2 d2
  rw [if_neg e1, if_neg e1]
  cases qf : fi (ft T (-1)) 204 0 with
  | none => exact absurd (hcf.mpr qf) e1
  | some l =>
    have hl := fi_in qf
    rw [b3 l qf, (d4 l qf).1, (d4 l qf).2, dv51 (by omega), Option.bind_some, rm51 (by omega), Option.bind_some]
    split
    · exact Pb.to j rfl rfl b2 d2
    · exact Pb.to j rfl rfl b2 d2
end SPN
