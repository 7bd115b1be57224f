/-! towns that differ in their ledgers alone -/
set_option maxRecDepth 100000
def agr (T1 T2 : Tn) : Prop := ∀ i, i < 70 → i ≠ 4 → T1 i = T2 i
section AGR
variable {T1 T2 : Tn} {L : RLt} {ab : Nat}
theorem agr_isW (h : agr T1 T2) {p : Nat} (hp : p < 6) : isW T1 p = isW T2 p := by
  unfold isW
  rw [h (23 + 5 * p) (by omega) (by omega), h (24 + 5 * p) (by omega) (by omega)]
theorem agr_wS (h : agr T1 T2) : ∀ n, n ≤ 6 → wS T1 ab n = wS T2 ab n
  | 0, _ => rfl
  | n + 1, hn => by
    rw [wS_s, wS_s, agr_wS h n (by omega), agr_isW h (by omega)]
theorem agr_0 (h : agr T1 T2) : T1 0 = T2 0 := h 0 (by omega) (by omega)
theorem agr_pr (h : agr T1 T2) (w : WF T1) {p : Nat} (hp : p < 6) : pr L T1 ab p = pr L T2 ab p := by
  have hn := w.n
  have b1 := w.ha hp
  have b2 := w.ne hp
  have e0 := agr_0 h
  have e22 := h (22 + 5 * p) (by omega) (by omega)
  have e23 := h (23 + 5 * p) (by omega) (by omega)
  have e24 := h (24 + 5 * p) (by omega) (by omega)
  have e25 := h (25 + 5 * p) (by omega) (by omega)
  have e2 := h 2 (by omega) (by omega)
  have eh := h (6 + T1 (23 + 5 * p)) (by omega) (by omega)
  have en := h (6 + T1 (24 + 5 * p)) (by omega) (by omega)
  have ew := agr_wS (ab := ab) h (T1 0) hn
  have ef : fac T1 ab p = fac T2 ab p := by
    funext k
    unfold fac
    rw [eh, en, ew, e23, e24, e25, e0]
  have eb : bas T1 p = bas T2 p := by
    unfold bas
    rw [en, eh, e23, e24, e2]
  unfold pr rul
  rw [ef, eb, ew, e22, e25, e0]
theorem agr_chg (h : agr T1 T2) (c : Nat) : chg T1 c = chg T2 c := by
  unfold chg
  rw [agr_0 h]
theorem agr_ok (h : agr T1 T2) (w : WF T1) (c : Nat) : okC L T1 ab c = okC L T2 ab c := by
  unfold okC
  rw [← agr_chg h c]
  cases q : chg T1 c with
  | false => rfl
  | true =>
    obtain ⟨c60, cp, p6, cq⟩ := chg_in w q
    have b1 := w.ha p6
    have b2 := w.ne p6
    have e26 := h (26 + 5 * (c / 10)) (by omega) (by omega)
    have e23 := h (23 + 5 * (c / 10)) (by omega) (by omega)
    have e24 := h (24 + 5 * (c / 10)) (by omega) (by omega)
    have e25 := h (25 + 5 * (c / 10)) (by omega) (by omega)
    have eh := h (14 + T1 (23 + 5 * (c / 10))) (by omega) (by omega)
    have en := h (14 + T1 (24 + 5 * (c / 10))) (by omega) (by omega)
    have ep := agr_pr (L := L) (ab := ab) h w p6
    have ew := agr_isW h p6
    rw [Bool.true_and, Bool.true_and]
    unfold can
    by_cases e9 : c % 10 = 9
    · rw [if_pos e9, if_pos e9, eh, en, ep, ew, e23, e24, e25]
    · have q6 : c % 10 < 6 := by omega
      have f23 := h (23 + 5 * (c % 10)) (by omega) (by omega)
      have f24 := h (24 + 5 * (c % 10)) (by omega) (by omega)
      have fw := agr_isW h q6
      rw [if_neg e9, if_neg e9, ew, fw, e23, e24, f23, f24]
      unfold mee
      rw [e26]
theorem agr_dn (h : agr T1 T2) (w : WF T1) : dn T1 ab = dn T2 ab := by
  have hn := w.n
  unfold dn
  rw [← agr_0 h]
  congr 1
  apply propext
  constructor
  · intro x p hp
    rw [← agr_isW h (by omega)]
    exact x p hp
  · intro x p hp
    rw [agr_isW h (by omega)]
    exact x p hp
end AGR
