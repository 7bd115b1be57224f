/-! the latest change taken back; by lot -/
set_option maxRecDepth 100000
section PBK
variable {E : EE} {L : RLt} {U : Nat → Int32} {en : Nat → Nat} {g0 h0 : St} {T : Tn} {z : Int32} {g h : St} {ab : Nat}
theorem K_l0 (h : KR g0 g T z ab) {p : Nat} (hp : p < 12) : rd (g 55) 12 (nI p) = some (nI (T (70 + 3 * p))) := h.rdK _ (by omega) (by omega) (by omega) (km_l0 p hp) hp (by decide)
theorem K_l1 (h : KR g0 g T z ab) {p : Nat} (hp : p < 12) : rd (g 57) 12 (nI p) = some (nI (T (71 + 3 * p))) := h.rdK _ (by omega) (by omega) (by omega) (km_l1 p hp) hp (by decide)
theorem K_l2 (h : KR g0 g T z ab) {p : Nat} (hp : p < 12) : rd (g 56) 12 (nI p) = some (nI (T (72 + 3 * p))) := h.rdK _ (by omega) (by omega) (by omega) (km_l2 p hp) hp (by decide)
theorem tw_undoG (t : TR h0 h T z U ab) {c th : Nat} (hc : c < 60) (c9 : c % 10 = 9) (ht : th < 8) (hh : T (23 + 5 * (c / 10)) < 8) (hj : 1 ≤ T (14 + th)) : ∃ h', tF_undoes h (nI c) (nI th) 0 = some h' ∧ TR h0 h' (trd T (c / 10) th (T (25 + 5 * (c / 10)))) z U ab := by
  have p6 : c / 10 < 6 := by omega
  unfold tF_undoes
  rw [dv10 (by omega), Option.bind_some, rm10 (by omega), Option.bind_some, if_pos (show nI (c % 10) = (9 : Int32) by rw [c9]; rfl), T_ha t p6, Option.bind_some, T_ja t hh, Option.bind_some, nI_1]
  obtain ⟨s1, w1, m1, q1⟩ := t.wrT (14 + T (23 + 5 * (c / 10))) (T (14 + T (23 + 5 * (c / 10))) + 1) (add14 _) (by omega) (by omega) (by omega)
  have hge : 1 ≤ tup T (14 + T (23 + 5 * (c / 10))) (T (14 + T (23 + 5 * (c / 10))) + 1) (14 + th) := by
    by_cases e : 14 + th = 14 + T (23 + 5 * (c / 10))
    · rw [e, tup_s]
      omega
    · rw [tup_n e]
      exact hj
  rw [w1, Option.bind_some, T_ja m1 ht, Option.bind_some, nI_m1 hge]
  obtain ⟨s2, w2, m2, q2⟩ := m1.wrT (14 + th) (tup T (14 + T (23 + 5 * (c / 10))) (T (14 + T (23 + 5 * (c / 10))) + 1) (14 + th) - 1) (add14 _) (by omega) (by omega) (by omega)
  rw [w2, Option.bind_some]
  obtain ⟨s3, w3, m3, q3⟩ := m2.wrT (23 + 5 * (c / 10)) th (at1 _) (by omega) (by omega) (by omega)
  rw [w3, Option.bind_some, m3.rdT (25 + 5 * (c / 10)) (at3 _) (by omega) (by omega) (by omega), Option.bind_some, tup_n (by omega), tup_n (by omega), tup_n (by omega), show nI (T (25 + 5 * (c / 10))) + 0 = nI (T (25 + 5 * (c / 10))) from nI_add _ 0]
  obtain ⟨s4, w4, m4, q4⟩ := m3.wrT (25 + 5 * (c / 10)) (T (25 + 5 * (c / 10))) (at3 _) (by omega) (by omega) (by omega)
  rw [w4, Option.bind_some]
  exact ⟨s4, rfl, m4⟩
theorem trd_WF (w : WF T) {p th : Nat} (hp : p < 6) (ht : th < 8) (h9 : T (14 + T (23 + 5 * p)) ≤ 98) (hj : ∀ i, i < 8 → T (14 + i) ≤ 99) : WF (trd T p th (T (25 + 5 * p))) ∧ ∀ i, i < 8 → trd T p th (T (25 + 5 * p)) (14 + i) ≤ 99 := by
  have b1 := w.ha hp
  have b2 := w.co hp
  have e : ∀ i, i < 8 → tup T (14 + T (23 + 5 * p)) (T (14 + T (23 + 5 * p)) + 1) (14 + i) ≤ 99 := by
    intro i hi
    have := hj i hi
    unfold tup
    split <;> omega
  refine ⟨?_, fun i hi => ?_⟩
  · unfold trd
    have ee := e th ht
    exact (((w.set (i := 14 + T (23 + 5 * p)) (v := T (14 + T (23 + 5 * p)) + 1) (by omega)).set (i := 14 + th) (v := tup T (14 + T (23 + 5 * p)) (T (14 + T (23 + 5 * p)) + 1) (14 + th) - 1) (by omega)).set (i := 23 + 5 * p) (v := th) (by omega)).set (i := 25 + 5 * p) (v := T (25 + 5 * p)) (by omega)
  · have := e i hi
    have e2 := e th ht
    unfold trd
    rw [tup_n (by omega), tup_n (by omega)]
    by_cases q : 14 + i = 14 + th
    · rw [q, tup_s]
      omega
    · rw [tup_n q]
      exact this
theorem exc_WF (w : WF T) {p q : Nat} (hp : p < 6) (hq : q < 6) : WF (exc T p q) := by
  have b1 := w.ha hp
  have b2 := w.ha hq
  unfold exc
  exact (w.set (i := 23 + 5 * p) (v := T (23 + 5 * q)) (by omega)).set (i := 23 + 5 * q) (v := T (23 + 5 * p)) (by omega)
theorem ER.keep {T T' : Tn} (hE : ER E L T) (w : WF T) (e0 : T' 0 = T 0) (ek : ∀ p, p < 6 → T' (22 + 5 * p) = T (22 + 5 * p)) : ER E L T' := by
  refine ⟨hE.1, hE.2.1, fun p hp => ?_⟩
  rw [e0] at hp
  rw [ek p (w.p6 hp)]
  exact hE.2.2 p hp
theorem ie0 {α : Type} {a : Nat} (ha : a < 2 ^ 31) (x y : α) : (if nI a = 0 then x else y) = if a = 0 then x else y := ie (b := 0) ha (by omega) x y
theorem il0 {α : Type} {a : Nat} (ha : a < 2 ^ 31) (x y : α) : (if nI a ≤ 0 then x else y) = if a ≤ 0 then x else y := il (b := 0) ha (by omega) x y
theorem ie9 {α : Type} {a : Nat} (ha : a < 2 ^ 31) (x y : α) : (if nI a = 9 then x else y) = if a = 9 then x else y := ie (b := 9) ha (by omega) x y
/-- whether the change at m of the ledger can be taken back -/
def cgb (T : Tn) (m : Nat) : Bool := decide (T (23 + 5 * (T (70 + 3 * m) / 10)) = T (71 + 3 * m)) && if T (70 + 3 * m) % 10 = 9 then decide (0 < T (14 + T (72 + 3 * m))) && decide (T (14 + T (71 + 3 * m)) < 99) else decide (T (23 + 5 * (T (70 + 3 * m) % 10)) = T (72 + 3 * m))
def bkT (T : Tn) (m : Nat) : Tn := tup (if T (70 + 3 * m) % 10 = 9 then trd T (T (70 + 3 * m) / 10) (T (72 + 3 * m)) (T (25 + 5 * (T (70 + 3 * m) / 10))) else exc T (T (70 + 3 * m) / 10) (T (70 + 3 * m) % 10)) 4 m
theorem kw_cgb (k : KR g0 g T z ab) (w : WF T) {m : Nat} (hm : m < 12) : kF_canGoBack g (nI m) = some (zI (cgb T m)) := by
  obtain ⟨l1, l2, l3, l4⟩ := w.2.2.2.2.2.2.2.2 m hm
  have p6 : T (70 + 3 * m) / 10 < 6 := by omega
  have b1 := w.ha p6
  have b2 := w.ja l4
  have b3 := w.ja l3
  unfold kF_canGoBack cgb
  rw [K_l0 k hm, Option.bind_some, dv10 (by omega), Option.bind_some, Option.bind_some, rm10 (by omega), Option.bind_some, K_ha k p6, Option.bind_some, K_l1 k hm, Option.bind_some, ie (by omega) (by omega)]
  by_cases a1 : T (23 + 5 * (T (70 + 3 * m) / 10)) = T (71 + 3 * m)
  · rw [if_pos a1, ie9 (by omega)]
    have d1 : decide (T (23 + 5 * (T (70 + 3 * m) / 10)) = T (71 + 3 * m)) = true := by simp [a1]
    rw [d1, Bool.true_and]
    by_cases c9 : T (70 + 3 * m) % 10 = 9
    · rw [if_pos c9, if_pos c9, K_l2 k hm, Option.bind_some, K_ja k l4, Option.bind_some, il0 (by omega), Option.bind_some, K_ja k l3, Option.bind_some, show (99 : Int32) = nI 99 from rfl, il (by omega) (by omega)]
      by_cases a2 : T (14 + T (72 + 3 * m)) ≤ 0
      · rw [if_pos a2]
        have : ¬ 0 < T (14 + T (72 + 3 * m)) := by omega
        simp [this, zI]
      · rw [if_neg a2]
        have a2' : 0 < T (14 + T (72 + 3 * m)) := by omega
        by_cases a3 : 99 ≤ T (14 + T (71 + 3 * m))
        · rw [if_pos a3]
          have : ¬ T (14 + T (71 + 3 * m)) < 99 := by omega
          simp [this, zI]
        · rw [if_neg a3]
          have : T (14 + T (71 + 3 * m)) < 99 := by omega
          simp [this, a2', zI]
    · have q6 : T (70 + 3 * m) % 10 < 6 := by omega
      have b4 := w.ha q6
      rw [if_neg c9, if_neg c9, K_ha k q6, Option.bind_some, K_l2 k hm, Option.bind_some, ie (by omega) (by omega), sz]
  · rw [if_neg a1]
    simp [a1, zI]
theorem kw_back (k : KR g0 g T z ab) (w : WF T) {m : Nat} (hm : T 4 = m + 1) : (cgb T m = false → kF_back g = some ((-4 : Int32), g)) ∧ (cgb T m = true → ∃ g', kF_back g = some (nI (T (70 + 3 * m)), g') ∧ KR g0 g' (bkT T m) z ab) := by
  have h12 : T 4 ≤ 12 := w.2.2.2.1
  have hk : m < 12 := by omega
  obtain ⟨l1, l2, l3, l4⟩ := w.2.2.2.2.2.2.2.2 m hk
  have p6 : T (70 + 3 * m) / 10 < 6 := by omega
  have b1 := w.ha p6
  have e1 : nI (T 4) - 1 = nI m := by rw [hm, nI_pred]
  have base : kF_back g = if cgb T m = true then (kF_carryBack g (nI (T (70 + 3 * m))) (nI (T (72 + 3 * m))) (0 : Int32)).bind fun g5 =>
      (pf g5 40 3 ((g5 40 3) - (1 : Int32))).bind fun g6 =>
      (rd (g6 55) 12 (nI m)).bind fun x7 =>
      some (x7, g6) else some ((-4 : Int32), g) := by
    unfold kF_back
    rw [K_made k, ie0 (by omega), if_neg (by omega), e1, kw_cgb k w hk, Option.bind_some, iz, K_l0 k hk, Option.bind_some, K_l2 k hk, Option.bind_some]
  constructor
  · intro q
    rw [base, q]
    rfl
  · intro q
    rw [base, if_pos q]
    have fin : ∀ (g5 : St) (T' : Tn), KR g0 g5 T' z ab → T' 4 = m + 1 → T' (70 + 3 * m) = T (70 + 3 * m) → ((pf g5 40 3 ((g5 40 3) - (1 : Int32))).bind fun g6 => (rd (g6 55) 12 (nI m)).bind fun x7 => some (x7, g6)) = some (nI (T (70 + 3 * m)), up2 g5 40 3 (nI m)) ∧ KR g0 (up2 g5 40 3 (nI m)) (tup T' 4 m) z ab := by
      intro g5 T' k5 f4 f70
      have k6 := k5.put 4 m (b := 40) (j := 3) (by omega) (by omega) (by omega) rfl
      have rr := K_l0 k6 hk
      rw [tup_n (by omega), f70] at rr
      refine ⟨?_, k6⟩
      have p : ∀ (s : St) (v : Int32), pf s 40 3 v = some (up2 s 40 3 v) := fun _ _ => rfl
      rw [K_made k5, f4, nI_pred, p, Option.bind_some, rr, Option.bind_some]
    unfold kF_carryBack bkT
    rw [dv10 (by omega), Option.bind_some, rm10 (by omega), Option.bind_some, ie9 (by omega)]
    unfold cgb at q
    by_cases c9 : T (70 + 3 * m) % 10 = 9
    · rw [if_pos c9] at q
      simp at q
      obtain ⟨g1, v1, v2, v3⟩ := kw_trades (nc := T (25 + 5 * (T (70 + 3 * m) / 10))) (y := -(0 : Int32)) k p6 b1 l4 (by omega) (sub_neg _ 0)
      obtain ⟨f1, f2⟩ := fin g1 _ v2 (by rw [trd_o (by omega) (by omega) (by omega) (by omega)]; exact hm) (trd_o (by omega) (by omega) (by omega) (by omega))
      rw [if_pos c9, if_pos c9, v1, Option.bind_some, Option.bind_some, f1]
      exact ⟨_, rfl, f2⟩
    · have q6 : T (70 + 3 * m) % 10 < 6 := by omega
      obtain ⟨g1, v1, v2, v3⟩ := kw_exchange k p6 q6
      obtain ⟨f1, f2⟩ := fin g1 _ v2 (by rw [exc_o (by omega) (by omega)]; exact hm) (exc_o (by omega) (by omega))
      rw [if_neg c9, if_neg c9, v1, Option.bind_some, Option.bind_some, f1]
      exact ⟨_, rfl, f2⟩
theorem tw_back (t : TR h0 h T z U ab) (w : WF T) (hj : ∀ i, i < 8 → T (14 + i) ≤ 99) {m : Nat} (hm : T 4 = m + 1) : (cgb T m = false → tF_back h = some ((-4 : Int32), h)) ∧ (cgb T m = true → ∃ h', tF_back h = some (nI (T (70 + 3 * m)), h') ∧ TR h0 h' (bkT T m) z U ab) := by
  have h12 : T 4 ≤ 12 := w.2.2.2.1
  have hk : m < 12 := by omega
  obtain ⟨l1, l2, l3, l4⟩ := w.2.2.2.2.2.2.2.2 m hk
  have p6 : T (70 + 3 * m) / 10 < 6 := by omega
  have b1 := w.ha p6
  have j1 := hj _ l4
  have j2 := hj _ b1
  have e70 : (70 : Int32) + (3 : Int32) * nI (T 4) - 3 = nI (70 + 3 * m) := by
    rw [show (3 : Int32) = nI 3 from rfl, pk_mul, show (70 : Int32) = nI 70 from rfl, nI_add, pk_sub (by omega)]
    congr 1
    omega
  have e71 : nI (70 + 3 * m) + 1 = nI (71 + 3 * m) := by rw [nI_1]; congr 1; omega
  have e72 : nI (70 + 3 * m) + 2 = nI (72 + 3 * m) := by rw [show (2 : Int32) = nI 2 from rfl, nI_add]; congr 1; omega
  have r0 := t.rdT (70 + 3 * m) (x := nI (70 + 3 * m)) rfl (by omega) (by omega) (by omega)
  have r1 := t.rdT (71 + 3 * m) (x := nI (71 + 3 * m)) rfl (by omega) (by omega) (by omega)
  have r2 := t.rdT (72 + 3 * m) (x := nI (72 + 3 * m)) rfl (by omega) (by omega) (by omega)
  have fin : ∀ (s : St) (T' : Tn), TR h0 s T' z U ab → T' 4 = m + 1 → ∃ h', ((rd (s 1) 340 (4 : Int32)).bind fun x12 => (wr s 1 340 (4 : Int32) (x12 - (1 : Int32))).bind fun g13 => some (nI (T (70 + 3 * m)), g13)) = some (nI (T (70 + 3 * m)), h') ∧ TR h0 h' (tup T' 4 m) z U ab := by
    intro s T' k5 f4
    obtain ⟨h2, x1, x2, -⟩ := k5.wrT 4 m (x := 4) rfl (by omega) (by omega) (by omega)
    refine ⟨h2, ?_, x2⟩
    rw [T_made k5, f4, Option.bind_some, nI_pred, x1, Option.bind_some]
  unfold tF_back
  rw [T_made t, Option.bind_some, ie0 (by omega), if_neg (by omega), Option.bind_some, e70, r0, Option.bind_some, dv10 (by omega), Option.bind_some, rm10 (by omega), Option.bind_some, T_ha t p6, Option.bind_some, e71, r1, Option.bind_some, ie (by omega) (by omega), e72]
  unfold cgb bkT
  by_cases a1 : T (23 + 5 * (T (70 + 3 * m) / 10)) = T (71 + 3 * m)
  · have d1 : decide (T (23 + 5 * (T (70 + 3 * m) / 10)) = T (71 + 3 * m)) = true := by simp [a1]
    rw [if_pos a1, Option.bind_some, ie9 (by omega), d1, Bool.true_and]
    by_cases c9 : T (70 + 3 * m) % 10 = 9
    · rw [if_pos c9, if_pos c9, if_pos c9, r2, Option.bind_some, if_neg c10, T_ja t l4, Option.bind_some, ie0 (by omega), Option.bind_some, T_ja t b1, Option.bind_some, show (99 : Int32) = nI 99 from rfl, ie (by omega) (by omega), ← a1]
      by_cases a2 : T (14 + T (72 + 3 * m)) = 0
      · rw [if_pos a2]
        simp [a2]
        rfl
      · rw [if_neg a2]
        have a2' : 0 < T (14 + T (72 + 3 * m)) := by omega
        by_cases a3 : T (14 + T (23 + 5 * (T (70 + 3 * m) / 10))) = 99
        · rw [if_pos a3]
          simp [a3]
          rfl
        · rw [if_neg a3]
          have a3' : T (14 + T (23 + 5 * (T (70 + 3 * m) / 10))) < 99 := by omega
          refine ⟨fun q => by simp [a2', a3'] at q, fun _ => ?_⟩
          obtain ⟨h1, u1, u2⟩ := tw_undoG t l1 c9 l4 b1 (by omega)
          obtain ⟨h2, f1, f2⟩ := fin h1 _ u2 (by rw [trd_o (by omega) (by omega) (by omega) (by omega)]; exact hm)
          rw [u1, Option.bind_some]
          exact ⟨h2, f1, f2⟩
    · have q6 : T (70 + 3 * m) % 10 < 6 := by omega
      have b3 := w.ha q6
      rw [if_neg c9, if_neg c9, if_neg c9, if_neg c10, T_ha t q6, Option.bind_some, r2, Option.bind_some, ie (by omega) (by omega)]
      by_cases a2 : T (23 + 5 * (T (70 + 3 * m) % 10)) = T (72 + 3 * m)
      · rw [if_pos a2]
        refine ⟨fun q => by simp [a2] at q, fun _ => ?_⟩
        obtain ⟨h1, u1, u2, -⟩ := tw_swaps t p6 q6
        obtain ⟨h2, f1, f2⟩ := fin h1 _ u2 (by rw [exc_o (by omega) (by omega)]; exact hm)
        rw [u1, Option.bind_some]
        exact ⟨h2, f1, f2⟩
      · rw [if_neg a2]
        simp [a2]
        rfl
  · rw [if_neg a1, Option.bind_some, ie9 (by omega), r2, Option.bind_some, if_pos rfl]
    refine ⟨fun _ => ?_, fun q => by simp [a1] at q⟩
    split <;> rfl
theorem pb_back (j : JT E L U en g0 h0 T z g h) : Pb E L U en g0 h0 (kF_back g) (tF_back h) := by
  have w := j.w
  have h12 : T 4 ≤ 12 := w.2.2.2.1
  by_cases e0 : T 4 = 0
  · refine Pb.same (r := -3) j ?_ ?_
    · unfold kF_back
      rw [K_made j.k, e0]
      rfl
    · unfold tF_back
      rw [T_made j.t, e0]
      rfl
  obtain ⟨m, hm⟩ : ∃ m, T 4 = m + 1 := ⟨T 4 - 1, by omega⟩
  obtain ⟨k1, k2⟩ := kw_back j.k w hm
  obtain ⟨t1, t2⟩ := tw_back j.t w j.j9 hm
  have hk : m < 12 := by omega
  obtain ⟨l1, l2, l3, l4⟩ := w.2.2.2.2.2.2.2.2 m hk
  have p6 : T (70 + 3 * m) / 10 < 6 := by omega
  have b1 := w.ha p6
  cases q : cgb T m with
  | false => exact Pb.same j (k1 q) (t1 q)
  | true =>
    obtain ⟨g', a1, a2⟩ := k2 q
    obtain ⟨h', c1, c2⟩ := t2 q
    refine ⟨_, g', h', bkT T m, z, a1, c1, ?_⟩
    have d4 : ∀ i, i < 70 → i ≠ 4 → bkT T m i = (if T (70 + 3 * m) % 10 = 9 then trd T (T (70 + 3 * m) / 10) (T (72 + 3 * m)) (T (25 + 5 * (T (70 + 3 * m) / 10))) else exc T (T (70 + 3 * m) / 10) (T (70 + 3 * m) % 10)) i := fun i _ n => tup_n n
    have core : WF (if T (70 + 3 * m) % 10 = 9 then trd T (T (70 + 3 * m) / 10) (T (72 + 3 * m)) (T (25 + 5 * (T (70 + 3 * m) / 10))) else exc T (T (70 + 3 * m) / 10) (T (70 + 3 * m) % 10)) ∧ (∀ i, i < 8 → (if T (70 + 3 * m) % 10 = 9 then trd T (T (70 + 3 * m) / 10) (T (72 + 3 * m)) (T (25 + 5 * (T (70 + 3 * m) / 10))) else exc T (T (70 + 3 * m) / 10) (T (70 + 3 * m) % 10)) (14 + i) ≤ 99) ∧ ∀ i, (i = 0 ∨ ∃ p, p < 6 ∧ i = 22 + 5 * p) → (if T (70 + 3 * m) % 10 = 9 then trd T (T (70 + 3 * m) / 10) (T (72 + 3 * m)) (T (25 + 5 * (T (70 + 3 * m) / 10))) else exc T (T (70 + 3 * m) / 10) (T (70 + 3 * m) % 10)) i = T i := by
      unfold cgb at q
      by_cases c9 : T (70 + 3 * m) % 10 = 9
      · rw [if_pos c9] at q ⊢
        simp at q
        obtain ⟨x1, x2⟩ := trd_WF (p := T (70 + 3 * m) / 10) (th := T (72 + 3 * m)) w p6 l4 (by rw [q.1]; omega) j.j9
        refine ⟨x1, x2, fun i hi => ?_⟩
        rcases hi with e | ⟨p, hp, e⟩
        · exact trd_o (by omega) (by omega) (by omega) (by omega)
        · exact trd_o (by omega) (by omega) (by omega) (by omega)
      · rw [if_neg c9]
        have q6 : T (70 + 3 * m) % 10 < 6 := by omega
        refine ⟨exc_WF w p6 q6, fun i hi => ?_, fun i hi => ?_⟩
        · rw [exc_o (by omega) (by omega)]
          exact j.j9 i hi
        · rcases hi with e | ⟨p, hp, e⟩
          · exact exc_o (by omega) (by omega)
          · exact exc_o (by omega) (by omega)
    obtain ⟨x1, x2, x3⟩ := core
    refine ⟨x1.set (i := 4) (v := m) (by omega), fun i hi => ?_, j.hL, j.hE.keep w ?_ (fun p hp => ?_), j.hU, a2, c2⟩
    · rw [d4 (14 + i) (by omega) (by omega)]
      exact x2 i hi
    · rw [d4 0 (by omega) (by omega)]
      exact x3 0 (Or.inl rfl)
    · rw [d4 (22 + 5 * p) (by omega) (by omega)]
      exact x3 _ (Or.inr ⟨p, hp, rfl⟩)
end PBK
