/-! facts of the town's numbers; the component's small functions -/
set_option maxRecDepth 100000
theorem WF.n {T : Tn} (w : WF T) : T 0 ≤ 6 := w.1
theorem WF.fee {T : Tn} (w : WF T) : T 2 ≤ 50 := w.2.1
theorem WF.wo {T : Tn} (w : WF T) {i : Nat} (h : i < 8) : T (6 + i) ≤ 99 := (w.2.2.2.2.1 i h).1
theorem WF.ja {T : Tn} (w : WF T) {i : Nat} (h : i < 8) : T (14 + i) ≤ 100 := (w.2.2.2.2.1 i h).2
theorem WF.kd {T : Tn} (w : WF T) {p : Nat} (h : p < 6) : T (22 + 5 * p) ≤ 5 := (w.2.2.2.2.2.1 p h).1
theorem WF.ha {T : Tn} (w : WF T) {p : Nat} (h : p < 6) : T (23 + 5 * p) < 8 := (w.2.2.2.2.2.1 p h).2.1
theorem WF.ne {T : Tn} (w : WF T) {p : Nat} (h : p < 6) : T (24 + 5 * p) < 8 := (w.2.2.2.2.2.1 p h).2.2.1
theorem WF.co {T : Tn} (w : WF T) {p : Nat} (h : p < 6) : T (25 + 5 * p) ≤ 999 := (w.2.2.2.2.2.1 p h).2.2.2.1
theorem WF.me {T : Tn} (w : WF T) {p : Nat} (h : p < 6) : T (26 + 5 * p) < 64 := (w.2.2.2.2.2.1 p h).2.2.2.2
theorem WF.k1 {T : Tn} (w : WF T) {p : Nat} (h : p < T 0) : 1 ≤ T (22 + 5 * p) := w.2.2.2.2.2.2.1 p h
theorem WF.p6 {T : Tn} (w : WF T) {p : Nat} (h : p < T 0) : p < 6 := Nat.lt_of_lt_of_le h w.1
theorem wS_s {T : Tn} {ab p : Nat} : wS T ab (p + 1) = wS T ab p ||| (if p ≠ ab ∧ isW T p = true then 2 ^ p else 0) := rfl
theorem wS_bit {T : Tn} {ab : Nat} (i : Nat) : ∀ n, (wS T ab n).testBit i = (decide (i < n) && (decide (i ≠ ab) && isW T i))
  | 0 => by simp [wS]
  | n + 1 => by
    rw [wS_s, Nat.testBit_or, wS_bit i n]
    by_cases h : n ≠ ab ∧ isW T n = true
    · rw [if_pos h, Nat.testBit_two_pow]
      by_cases e : n = i
      · subst e
        simp [h.1, h.2]
      · have e2 : ¬ i = n := fun z => e z.symm
        have e3 : i < n + 1 ↔ i < n := by omega
        simp [e, e3]
    · rw [if_neg h]
      by_cases e : i = n
      · subst e
        have h2 : (decide (i ≠ ab) && isW T i) = false := by
          cases q : isW T i with
          | false => simp
          | true =>
            have : ¬ i ≠ ab := fun z => h ⟨z, q⟩
            simp [this]
        rw [h2]
        simp
      · have e3 : i < n + 1 ↔ i < n := by omega
        simp [e3]
theorem wS_lt {T : Tn} {ab n : Nat} : wS T ab n < 2 ^ n := by
  apply Nat.lt_pow_two_of_testBit
  intro i hi
  rw [wS_bit]
  have : ¬ i < n := by omega
  simp [this]
theorem wS_64 {T : Tn} {ab n : Nat} (h : n ≤ 6) : wS T ab n < 64 := by
  have h1 := wS_lt (T := T) (ab := ab) (n := n)
  have h2 : 2 ^ n ≤ 2 ^ 6 := Nat.pow_le_pow_right (by decide) h
  omega
/-- bit ab taken out -/
def clr (m ab : Nat) : Nat := if ab < 6 then m &&& (63 - 2 ^ ab) else m
theorem clr_b : ∀ ab, ab < 6 → ∀ i, i < 6 → (63 - 2 ^ ab).testBit i = decide (i ≠ ab) := by decide
theorem clr_w {T : Tn} {ab n : Nat} (hn : n ≤ 6) (ha : ab ≤ 6) : clr (wS T 6 n) ab = wS T ab n := by
  unfold clr
  apply Nat.eq_of_testBit_eq
  intro i
  by_cases hi : i < n
  · split
    · next h =>
      rw [Nat.testBit_and, wS_bit, wS_bit, clr_b ab h i (by omega)]
      have e : i ≠ 6 := by omega
      simp [e, hi, Bool.and_comm]
    · next h =>
      rw [wS_bit, wS_bit]
      have e : i ≠ 6 := by omega
      have e2 : i ≠ ab := by omega
      simp [e, e2]
  · split
    · rw [Nat.testBit_and, wS_bit, wS_bit]
      simp [hi]
    · rw [wS_bit, wS_bit]
      simp [hi]
theorem pop_le (k : Nat) : pop k ≤ 6 := by
  unfold pop
  omega
theorem bas_le {T : Tn} (w : WF T) {p : Nat} (h : p < 6) : bas T p ≤ 149 := by
  have h1 := w.wo (w.ne h)
  have h2 := w.fee
  unfold bas
  omega
/-- the first of m from k on -/
def fi (Q : Nat → Bool) : Nat → Nat → Option Nat
  | 0, _ => none
  | m + 1, k => if Q k = true then some k else fi Q m (k + 1)
theorem fi_in {Q : Nat → Bool} : ∀ {m k j : Nat}, fi Q m k = some j → k ≤ j ∧ j < k + m ∧ Q j = true
  | 0, k, j, h => by cases h
  | m + 1, k, j, h => by
    unfold fi at h
    split at h
    · next q =>
      cases h
      exact ⟨Nat.le_refl _, by omega, q⟩
    · have := fi_in h
      exact ⟨by omega, by omega, this.2.2⟩
theorem fiR_fi (L : RLt) (kd : Nat) (f : Nat → Int32) : ∀ m k, fiR L kd f m k = fi (fun k => isOfS kd (L.2.1 k).1 && L.2.2 k f) m k
  | 0, _ => rfl
  | m + 1, k => by
    unfold fiR fi
    rw [fiR_fi L kd f m (k + 1)]
theorem iter_find {T : Type} {body : Int32 → Option (Int32 ⊕ T)} (n : Nat) (Q : Nat → Bool) (hit : Nat → T) (miss : T) (hs : ∀ k, k < n → body (nI k) = if Q k = true then some (.inr (hit k)) else some (.inl (nI (k + 1)))) (he : body (nI n) = some (.inr miss)) : ∀ (m k : Nat) (x : Int32), x = nI k → k + m = n → iter body x = some (match fi Q m k with
  | none => miss
  | some j => hit j)
  | 0, k, x, hx, e => by
    subst hx
    have e : k = n := by omega
    subst e
    exact iter_done he
  | m + 1, k, x, hx, e => by
    subst hx
    have h := hs k (by omega)
    unfold fi
    by_cases q : Q k = true
    · rw [if_pos q] at h ⊢
      exact iter_done h
    · rw [if_neg q] at h ⊢
      rw [iter_step h]
      exact iter_find n Q hit miss hs he m (k + 1) _ rfl (by omega)
theorem chR_le {r : Nat × Nat × Nat} {v : Nat} (h : r.2.2 ≤ 99) (hv : v ≤ 149) : chR r v ≤ 248 := by
  unfold chR
  split
  · omega
  · split <;> omega
theorem rul_le {L : RLt} {T : Tn} (w : WF T) (hL : LOK L) {ab p : Nat} (h : p < 6) : rul L T ab p ≤ 248 := by
  have hb := bas_le w h
  unfold rul
  split
  · omega
  · next k q =>
    rw [fiR_fi] at q
    have := fi_in q
    exact chR_le (hL.2 k (by omega)).2.2 hb
theorem askS_le {kd v co w : Nat} (h : v ≤ 248) : askS kd v co w ≤ 496 := by
  unfold askS
  split
  · omega
  · split
    · split <;> omega
    · split
      · omega
      · split <;> omega
theorem pr_le {L : RLt} {T : Tn} (w : WF T) (hL : LOK L) {ab p : Nat} (h : p < 6) : pr L T ab p ≤ 496 := askS_le (rul_le w hL h)
/-! ### ints -/
theorem dv10 {a : Nat} (ha : a < 2 ^ 31) : dv (nI a) 10 = some (nI (a / 10)) := dv_n (d := 10) rfl ha (by omega) (by omega)
theorem rm10 {a : Nat} (ha : a < 2 ^ 31) : rm (nI a) 10 = some (nI (a % 10)) := rm_n (d := 10) rfl ha (by omega) (by omega)
theorem dv2 {a : Nat} (ha : a < 2 ^ 31) : dv (nI a) 2 = some (nI (a / 2)) := dv_n (d := 2) rfl ha (by omega) (by omega)
theorem dv51 {a : Nat} (ha : a < 2 ^ 31) : dv (nI a) 51 = some (nI (a / 51)) := dv_n (d := 51) rfl ha (by omega) (by omega)
theorem rm51 {a : Nat} (ha : a < 2 ^ 31) : rm (nI a) 51 = some (nI (a % 51)) := rm_n (d := 51) rfl ha (by omega) (by omega)
theorem pop0 : ∀ m, m < 64 → (m = 0 ↔ pop m = 0) := by decide
theorem ie {α : Type} {a b : Nat} (ha : a < 2 ^ 31) (hb : b < 2 ^ 31) (x y : α) : (if nI a = nI b then x else y) = if a = b then x else y := by
  by_cases h : a = b
  · rw [if_pos h, if_pos (by rw [h])]
  · rw [if_neg h, if_neg (fun z => h ((nI_eq ha hb).mp z))]
theorem il {α : Type} {a b : Nat} (ha : a < 2 ^ 31) (hb : b < 2 ^ 31) (x y : α) : (if nI a ≤ nI b then x else y) = if a ≤ b then x else y := by
  by_cases h : a ≤ b
  · rw [if_pos h, if_pos ((nI_leI ha hb).mpr h)]
  · rw [if_neg h, if_neg (fun z => h ((nI_leI ha hb).mp z))]
theorem it {α : Type} {a b : Nat} (ha : a < 2 ^ 31) (hb : b < 2 ^ 31) (x y : α) : (if nI a < nI b then x else y) = if a < b then x else y := by
  by_cases h : a < b
  · rw [if_pos h, if_pos ((nI_ltI ha hb).mpr h)]
  · rw [if_neg h, if_neg (fun z => h ((nI_ltI ha hb).mp z))]
theorem iz {α : Type} (b : Bool) (x y : α) : (if zI b = 0 then x else y) = if b = true then y else x := by
  cases b
  · rfl
  · rfl
theorem sz (c : Prop) [Decidable c] : (if c then some (1 : Int32) else some 0) = some (zI (decide c)) := by
  by_cases h : c
  · rw [if_pos h]
    simp [h, zI]
  · rw [if_neg h]
    simp [h, zI]
theorem sz' (c : Prop) [Decidable c] : (if c then some (0 : Int32) else some 1) = some (zI (!decide c)) := by
  by_cases h : c
  · rw [if_pos h]
    simp [h, zI]
  · rw [if_neg h]
    simp [h, zI]
theorem sub_n {a b : Nat} (ha : a < 2 ^ 30) (hb : b < 2 ^ 30) : (if (0 : Int32) < nI a - nI b then nI a - nI b else 0) = nI (a - b) := by
  by_cases h : b ≤ a
  · rw [pk_sub h]
    by_cases e : a - b = 0
    · rw [e]
      rfl
    · rw [if_pos]
      rw [n0]
      exact nI_lt (by omega) (by omega)
  · rw [if_neg]
    · rw [show a - b = 0 by omega]
      rfl
    · intro q
      have := pk_sneg (a := a) (b := b) hb (by omega)
      rw [Int32.lt_iff_toInt_lt] at q this
      omega
theorem fMax_n {a b : Nat} (ha : a < 2 ^ 30) (hb : b < 2 ^ 30) : fMax0 (nI a - nI b) = nI (a - b) := sub_n ha hb
theorem isOf_n : ∀ a, a < 6 → ∀ b, b < 6 → kF_isOf (nI a) (nI b) = zI (isOfS a b) := by decide +kernel
theorem bc_n : ∀ k, k < 64 → kF_J3_bitCount (nI k) = nI (pop k) := by decide +kernel
theorem clr_n : ∀ k, k < 64 → ∀ ab, ab < 7 → nI k &&& (nI (if ab < 6 then 2 ^ ab else 0) ^^^ (-1)) = nI (clr k ab) := by decide +kernel
/-! ### the component's reads -/
theorem km_kd : ∀ p, p < 6 → km (22 + 5 * p) = (45, p) := by decide
theorem km_ha : ∀ p, p < 6 → km (23 + 5 * p) = (46, p) := by decide
theorem km_ne : ∀ p, p < 6 → km (24 + 5 * p) = (47, p) := by decide
theorem km_co : ∀ p, p < 6 → km (25 + 5 * p) = (48, p) := by decide
theorem km_me : ∀ p, p < 6 → km (26 + 5 * p) = (49, p) := by decide
theorem km_wo : ∀ p, p < 8 → km (6 + p) = (50, p) := by decide
theorem km_ja : ∀ p, p < 8 → km (14 + p) = (51, p) := by decide
theorem km_r0 : ∀ p, p < 6 → km (52 + 3 * p) = (52, p) := by decide
theorem km_r1 : ∀ p, p < 6 → km (53 + 3 * p) = (53, p) := by decide
theorem km_r2 : ∀ p, p < 6 → km (54 + 3 * p) = (54, p) := by decide
theorem km_l0 : ∀ p, p < 12 → km (70 + 3 * p) = (55, p) := by decide
theorem km_l1 : ∀ p, p < 12 → km (71 + 3 * p) = (57, p) := by decide
theorem km_l2 : ∀ p, p < 12 → km (72 + 3 * p) = (56, p) := by decide
section KRS
variable {g0 g : St} {T : Tn} {z : Int32} {ab : Nat}
theorem KR.at (h : KR g0 g T z ab) (i : Nat) {b j : Nat} (hi : i < 106) (h1 : i ≠ 1) (h5 : i ≠ 5) (hm : km i = (b, j)) : g b j = nI (T i) := by
  have := h.1 i hi h1 h5
  rw [hm] at this
  exact this
theorem KR.rdK (h : KR g0 g T z ab) (i : Nat) {b j n : Nat} (hi : i < 106) (h1 : i ≠ 1) (h5 : i ≠ 5) (hm : km i = (b, j)) (hj : j < n) (hn : n < 2 ^ 31) : rd (g b) n (nI j) = some (nI (T i)) := by
  rw [rd_n hj hn, h.at i hi h1 h5 hm]
theorem K_0 (h : KR g0 g T z ab) : g 40 0 = nI (T 0) := h.at 0 (by decide) (by decide) (by decide) rfl
theorem K_fee (h : KR g0 g T z ab) : g 40 1 = nI (T 2) := h.at 2 (by decide) (by decide) (by decide) rfl
theorem K_rep (h : KR g0 g T z ab) : g 40 2 = nI (T 3) := h.at 3 (by decide) (by decide) (by decide) rfl
theorem K_made (h : KR g0 g T z ab) : g 40 3 = nI (T 4) := h.at 4 (by decide) (by decide) (by decide) rfl
theorem K_kd (h : KR g0 g T z ab) {p : Nat} (hp : p < 6) : rd (g 45) 6 (nI p) = some (nI (T (22 + 5 * p))) := h.rdK _ (by omega) (by omega) (by omega) (km_kd p hp) hp (by decide)
theorem K_ha (h : KR g0 g T z ab) {p : Nat} (hp : p < 6) : rd (g 46) 6 (nI p) = some (nI (T (23 + 5 * p))) := h.rdK _ (by omega) (by omega) (by omega) (km_ha p hp) hp (by decide)
theorem K_ne (h : KR g0 g T z ab) {p : Nat} (hp : p < 6) : rd (g 47) 6 (nI p) = some (nI (T (24 + 5 * p))) := h.rdK _ (by omega) (by omega) (by omega) (km_ne p hp) hp (by decide)
theorem K_co (h : KR g0 g T z ab) {p : Nat} (hp : p < 6) : rd (g 48) 6 (nI p) = some (nI (T (25 + 5 * p))) := h.rdK _ (by omega) (by omega) (by omega) (km_co p hp) hp (by decide)
theorem K_me (h : KR g0 g T z ab) {p : Nat} (hp : p < 6) : rd (g 49) 6 (nI p) = some (nI (T (26 + 5 * p))) := h.rdK _ (by omega) (by omega) (by omega) (km_me p hp) hp (by decide)
theorem K_wo (h : KR g0 g T z ab) {p : Nat} (hp : p < 8) : rd (g 50) 8 (nI p) = some (nI (T (6 + p))) := h.rdK _ (by omega) (by omega) (by omega) (km_wo p hp) hp (by decide)
theorem K_ja (h : KR g0 g T z ab) {p : Nat} (hp : p < 8) : rd (g 51) 8 (nI p) = some (nI (T (14 + p))) := h.rdK _ (by omega) (by omega) (by omega) (km_ja p hp) hp (by decide)
theorem KR.wrK (h : KR g0 g T z ab) (b n i : Nat) {x : Int32} (v : Int32) (hx : x = nI i) (hi : i < n) (hn : n < 2 ^ 31) (hb : kN b i = true) : ∃ g', wr g b n x v = some g' ∧ KR g0 g' T z ab ∧ g' = up2 g b i v := ⟨_, wr_l i hx hi hn, h.scr v hb, rfl⟩
theorem kw_isWhole (h : KR g0 g T z ab) (w : WF T) {p : Nat} (hp : p < 6) : kF_X3_isWhole g (nI p) = some (zI (isW T p)) := by
  have h1 := w.ha hp
  have h2 := w.ne hp
  unfold kF_X3_isWhole
  rw [K_ha h hp, Option.bind_some, K_ne h hp, Option.bind_some, ie (by omega) (by omega), sz]
  rfl
theorem kw_whole (h : KR g0 g T z ab) (w : WF T) : kF_X3_whole g = some (nI (wS T 6 (T 0))) := by
  have hn := w.n
  unfold kF_X3_whole
  refine iter_up (fun i => (nI (wS T 6 i), nI i)) (T 0) (fun i hi => ?_) ?_
  · dsimp only [un2]
    rw [K_0 h, if_neg (nI_ge hi (by omega)), kw_isWhole h w (by omega), Option.bind_some, iz, nI_bit i (by omega), n0, nI_or, nI_or, nI_1, wS_s]
    by_cases q : isW T i = true
    · rw [if_pos q, if_pos ⟨by omega, q⟩]
    · rw [if_neg q, if_neg (fun z => q z.2)]
  · dsimp only [un2]
    rw [K_0 h, if_pos (nI_le (Nat.le_refl _) (by omega))]
theorem kw_absentBit (h : KR g0 g T z ab) (ha : ab ≤ 6) : kF_absentBit g = some (nI (if ab < 6 then 2 ^ ab else 0)) := by
  unfold kF_absentBit
  rw [h.2.2.1]
  unfold abI
  by_cases q : ab < 6
  · rw [if_pos q, if_pos q, if_pos (nI_pos' (by omega)), nI_bit ab (by omega)]
  · rw [if_neg q, if_neg q, if_neg (by decide)]
    rfl
def ER (E : EE) (L : RLt) (T : Tn) : Prop := rn E = L.1 ∧ (∀ k, k < L.1 → rK E k = (nI (L.2.1 k).1, nI (L.2.1 k).2.1, nI (L.2.1 k).2.2) ∧ ∀ f f' : Nat → Int32, (∀ i, i < 5 → f i = f' i) → fCond (rC E k) f = zI (L.2.2 k f')) ∧ ∀ p, p < T 0 → pk E p = T (22 + 5 * p)
theorem fIsFor_n {E : EE} {L : RLt} (hE : ER E L T) (hL : LOK L) {k kd : Nat} (hk : k < L.1) (hd : kd < 6) {f f' : Nat → Int32} (hf : ∀ i, i < 5 → f i = f' i) : fIsFor E k (nI kd) f = zI (isOfS kd (L.2.1 k).1 && L.2.2 k f') := by
  have h1 := hE.2.1 k hk
  have h2 := hL.2 k hk
  unfold fIsFor
  rw [h1.1, isOf_n kd hd _ (by omega), iz, h1.2 f f' hf]
  cases isOfS kd (L.2.1 k).1 <;> rfl
theorem fChanges_n {E : EE} {L : RLt} (hE : ER E L T) (hL : LOK L) {k v : Nat} (hk : k < L.1) (hv : v ≤ 149) : fChanges E k (nI v) = nI (chR (L.2.1 k) v) := by
  have h1 := hE.2.1 k hk
  have h2 := hL.2 k hk
  unfold fChanges chR
  rw [h1.1]
  dsimp only
  rw [n0, n1, ie (by omega) (by omega), ie (by omega) (by omega), nI_add, fMax_n (by omega) (by omega)]
  split
  · rfl
  · split <;> rfl
theorem fAsks_n {kd v co w : Nat} (h0 : 1 ≤ kd) (h5 : kd ≤ 5) (hv : v ≤ 248) (hc : co ≤ 999) (hw : w ≤ 6) : fAsks kd (nI v) (nI co) (nI w) = nI (askS kd v co w) := by
  have e10 : (10 : Int32) = nI 10 := rfl
  have e2 : (2 : Int32) = nI 2 := rfl
  have e7 : (7 : Int32) = nI 7 := rfl
  have d1 : nI co / nI 10 = nI (co / 10) := pk_div (by omega) (by omega) (by omega)
  have d2 : fMax0 (nI v - nI (co / 10)) = nI (v - co / 10) := fMax_n (by omega) (by omega)
  have d3 : nI (v - co / 10) / nI 2 = nI ((v - co / 10) / 2) := pk_div (by omega) (by omega) (by omega)
  match kd, h0, h5 with
  | 1, _, _ => rfl
  | 2, _, _ =>
    show fMax0 (nI v - nI co / 10) = _
    rw [e10, d1, d2]
    rfl
  | 3, _, _ =>
    show (if nI w = 0 then fMax0 (nI v - nI co / 10) / 2 else fMax0 (nI v - nI co / 10)) = _
    rw [e10, d1, d2, e2, d3, n0, ie (by omega) (by omega)]
    show _ = nI (if w = 0 then (v - co / 10) / 2 else v - co / 10)
    split <;> rfl
  | 4, _, _ =>
    show 2 * nI v = _
    rw [e2, pk_mul]
    rfl
  | 5, _, _ =>
    show fMax0 (2 * nI v - 7) = _
    rw [e2, e7, pk_mul, fMax_n (by omega) (by omega)]
    rfl
theorem kw_price {E : EE} {L : RLt} (h : KR g0 g T z ab) (w : WF T) (ha : ab ≤ 6) (hE : ER E L T) (hL : LOK L) {p : Nat} (hp : p < T 0) : ∃ g', kF_priceOf E g (nI p) = some (nI (pr L T ab p), g') ∧ KR g0 g' T z ab ∧ ∀ b, b ≠ 15 → g' b = g b := by
  have p6 := w.p6 hp
  have hn := w.n
  have b1 := w.ha p6
  have b2 := w.ne p6
  have b3 := w.kd p6
  have b4 := w.co p6
  have b5 := w.wo b1
  have b6 := w.wo b2
  have b7 := w.fee
  have hb := bas_le w p6
  unfold kF_priceOf
  rw [kw_whole h w, Option.bind_some, kw_absentBit h ha, Option.bind_some, K_ha h p6, Option.bind_some, K_wo h b1, Option.bind_some]
  obtain ⟨g5, e5, h5, q5⟩ := h.wrK 15 5 0 (x := 0) (nI (T (6 + T (23 + 5 * p)))) rfl (by omega) (by decide) rfl
  rw [e5, Option.bind_some, K_ne h5 p6, Option.bind_some, K_wo h5 b2, Option.bind_some]
  obtain ⟨g8, e8, h8, q8⟩ := h5.wrK 15 5 1 (x := 1) (nI (T (6 + T (24 + 5 * p)))) rfl (by omega) (by decide) rfl
  rw [e8, Option.bind_some, K_co h8 p6, Option.bind_some]
  obtain ⟨g10, e10, h10, q10⟩ := h8.wrK 15 5 2 (x := 2) (nI (T (25 + 5 * p))) rfl (by omega) (by decide) rfl
  rw [e10, Option.bind_some, clr_n _ (wS_64 hn) ab (by omega), clr_w hn ha, bc_n _ (wS_64 hn)]
  obtain ⟨g11, e11, h11, q11⟩ := h10.wrK 15 5 3 (x := 3) (nI (pop (wS T ab (T 0)))) rfl (by omega) (by decide) rfl
  rw [e11, Option.bind_some]
  obtain ⟨g12, e12, h12, q12⟩ := h11.wrK 15 5 4 (x := 4) (nI p) rfl (by omega) (by decide) rfl
  rw [e12, Option.bind_some]
  have hfr : ∀ b, b ≠ 15 → g12 b = g b := by
    intro b hb
    subst q12; subst q11; subst q10; subst q8; subst q5
    rw [up2_o hb, up2_o hb, up2_o hb, up2_o hb, up2_o hb]
  have hf : ∀ i, i < 5 → g12 15 i = fac T ab p i := by
    intro i hi
    subst q12; subst q11; subst q10; subst q8; subst q5
    match i, hi with
    | 0, _ => simp [up2_eq, fac]
    | 1, _ => simp [up2_eq, fac]
    | 2, _ => simp [up2_eq, fac]
    | 3, _ => simp [up2_eq, fac]
    | 4, _ => simp [up2_eq, fac]
  rw [rd_l (x := 1) 1 rfl (by omega) (by decide), Option.bind_some, rd_l (x := 0) 0 rfl (by omega) (by decide), Option.bind_some, hf 1 (by omega), hf 0 (by omega)]
  have f1 : fac T ab p 1 = nI (T (6 + T (24 + 5 * p))) := rfl
  have f0 : fac T ab p 0 = nI (T (6 + T (23 + 5 * p))) := rfl
  rw [f1, f0, sub_n (by omega) (by omega), K_fee h12, nI_add, hE.1]
  have hbas : T (6 + T (24 + 5 * p)) - T (6 + T (23 + 5 * p)) + T 2 = bas T p := rfl
  rw [hbas]
  rw [iter_find L.1 (fun k => isOfS (T (22 + 5 * p)) (L.2.1 k).1 && L.2.2 k (fac T ab p)) (fun k => .inl (nI k)) (.inr (nI (bas T p))) (fun k hk => ?_) ?_ L.1 0 (0 : Int32) rfl (by omega)]
  · have hl1 := hL.1
    have fin : ∀ v, v ≤ 248 → ((ppo E (nI p)).bind fun k17 => (rd (g12 48) 6 (nI p)).bind fun x18 => some (fAsks (pk E k17) (nI v) x18 (nI (pop (wS T ab (T 0)))), g12)) = some (nI (askS (T (22 + 5 * p)) v (T (25 + 5 * p)) (pop (wS T ab (T 0)))), g12) := by
      intro v hv
      have hk := hE.2.2 p hp
      have k1 := w.k1 hp
      have hpp : ppo E (nI p) = some p := by
        unfold ppo
        rw [nI_clamp (by omega), if_neg]
        intro q
        rcases q with q | q | q
        · exact nI_pos (by omega) q
        · omega
        · omega
      rw [hpp, Option.bind_some, K_co h12 p6, Option.bind_some, hk, fAsks_n k1 b3 hv b4 (pop_le _)]
    unfold pr rul
    rw [fiR_fi]
    cases q : fi (fun k => isOfS (T (22 + 5 * p)) (L.2.1 k).1 && L.2.2 k (fac T ab p)) L.1 0 with
    | none =>
      refine ⟨g12, ?_, h12, hfr⟩
      show Option.bind (some (nI (bas T p))) _ = _
      rw [Option.bind_some]
      exact fin (bas T p) (by omega)
    | some k =>
      have hk := fi_in q
      refine ⟨g12, ?_, h12, hfr⟩
      show Option.bind ((ixo L.1 (nI k)).bind fun k21 => some (fChanges E k21 (nI (bas T p)))) _ = _
      rw [ixo_n (by omega) (by omega), Option.bind_some, Option.bind_some, fChanges_n hE hL (by omega) hb]
      exact fin _ (chR_le (hL.2 k (by omega)).2.2 hb)
  · have hl1 := hL.1
    show (if nI L.1 ≤ nI L.1 then _ else _) = _
    rw [if_pos (nI_le (Nat.le_refl _) (by omega))]
  · have hl1 := hL.1
    show (if nI L.1 ≤ nI k then _ else _) = _
    rw [if_neg (nI_ge hk (by omega)), ixo_n hk (by omega), Option.bind_some, K_kd h12 p6, Option.bind_some, fIsFor_n hE hL hk (by omega) hf, iz, nI_1]
end KRS
