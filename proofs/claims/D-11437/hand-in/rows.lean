section
/-! ===== plain rows: the least of two sums, and in how many ways it is reached ===== -/
/-- the least of s and l + r, where neither l nor r is FAR -/
def pb_st (s l r : Int32) : Int32 := if 1000000 ≤ l then s else if 1000000 ≤ r then s else if s ≤ l + r then s else l + r
/-- the number of ways behind it: v those of s, u those of r -/
def pb_w (s l r v u : Int32) : Int32 := if 1000000 ≤ l then v else if 1000000 ≤ r then v else if s ≤ l + r then (if l + r = s then v + u else v + 0) else 0 + u
/-- a row of onward out of the row f ahead of it, for two words: c1 the cost of the line 0..1, c2 of 0..2, 0 of 1..2 -/
def pb_row (c1 c2 : Int32) (f : Nat → Int32) (p : Nat) : Int32 := if p = 0 then pb_st (pb_st 1000000 c1 (f 1)) c2 (f 2) else if p = 1 then pb_st 1000000 0 (f 2) else 1000000
/-- onward, as learn leaves it -/
def pb_F (c1 c2 : Int32) : Nat → Nat → Int32
  | 0 => fun p => if p = 2 then 0 else 1000000
  | n + 1 => pb_row c1 c2 (pb_F c1 c2 n)
/-- best[0] and ways[0], as learn leaves them -/
def pb_B (c1 c2 : Int32) : Int32 := pb_st (pb_st 1000000 c1 0) c2 0
def pb_W (c1 c2 : Int32) : Int32 := pb_w (pb_st 1000000 c1 0) c2 0 (pb_w 1000000 c1 0 0 1) 1
theorem pb_row0 (c1 c2 : Int32) (f : Nat → Int32) : pb_row c1 c2 f 0 = pb_st (pb_st 1000000 c1 (f 1)) c2 (f 2) := if_pos rfl
theorem pb_row1 (c1 c2 : Int32) (f : Nat → Int32) : pb_row c1 c2 f 1 = pb_st 1000000 0 (f 2) := by
  unfold pb_row
  rw [if_neg (by omega), if_pos rfl]
theorem pb_row2 (c1 c2 : Int32) (f : Nat → Int32) (p : Nat) : pb_row c1 c2 f (p + 2) = 1000000 := by
  unfold pb_row
  rw [if_neg (by omega), if_neg (by omega)]
theorem pb_row_eq {c1 c2 : Int32} {f g : Nat → Int32} (h1 : f 1 = g 1) (h2 : f 2 = g 2) (p : Nat) : pb_row c1 c2 f p = pb_row c1 c2 g p := by
  unfold pb_row
  rw [h1, h2]
theorem pb_st_far (s r : Int32) : pb_st s 1000000 r = s := if_pos (by decide)
theorem pb_st_farR (s l : Int32) : pb_st s l 1000000 = s := by
  unfold pb_st
  by_cases h : 1000000 ≤ l
  · rw [if_pos h]
  · rw [if_neg h, if_pos (by decide)]
theorem pb_st_old {s c : Int32} (hc : ¬ 1000000 ≤ c) : pb_st s c 0 = if s ≤ c then s else c := by
  unfold pb_st
  rw [if_neg hc, if_neg (by decide), Int32.add_zero]
theorem pb_st_new {c : Int32} (hc : ¬ 1000000 ≤ c) : pb_st 1000000 c 0 = c := by
  rw [pb_st_old hc, if_neg hc]
theorem pb_F00 (c1 c2 : Int32) : pb_F c1 c2 0 0 = 1000000 := by
  show (if (0 : Nat) = 2 then (0 : Int32) else 1000000) = 1000000
  exact if_neg (by decide)
theorem pb_F01 (c1 c2 : Int32) : pb_F c1 c2 0 1 = 1000000 := by
  show (if (1 : Nat) = 2 then (0 : Int32) else 1000000) = 1000000
  exact if_neg (by decide)
theorem pb_F02 (c1 c2 : Int32) : pb_F c1 c2 0 2 = 0 := by
  show (if (2 : Nat) = 2 then (0 : Int32) else 1000000) = 0
  exact if_pos rfl
theorem pb_F10 (c1 c2 : Int32) : pb_F c1 c2 1 0 = pb_st 1000000 c2 0 := by
  show pb_row c1 c2 (pb_F c1 c2 0) 0 = _
  rw [pb_row0, pb_F01, pb_F02, pb_st_farR]
theorem pb_F11 (c1 c2 : Int32) : pb_F c1 c2 1 1 = 0 := by
  show pb_row c1 c2 (pb_F c1 c2 0) 1 = _
  rw [pb_row1, pb_F02]
  decide
theorem pb_F12 (c1 c2 : Int32) : pb_F c1 c2 1 2 = 1000000 := pb_row2 c1 c2 (pb_F c1 c2 0) 0
theorem pb_F20 {c1 c2 : Int32} (h : ¬ 1000000 ≤ c1) : pb_F c1 c2 2 0 = c1 := by
  show pb_row c1 c2 (pb_F c1 c2 1) 0 = _
  rw [pb_row0, pb_F11, pb_F12, pb_st_farR, pb_st_new h]
/-- the answers for two words: m lines, r words in the first -/
def pb_R (c1 c2 m r : Int32) : Prop := (¬ 1000000 ≤ c2 ∧ ¬ c1 < c2 ∧ m = 1 ∧ r = 2) ∨ (c1 < c2 ∧ (c2 = 1000000 ∨ ¬ 1000000 ≤ c2) ∧ m = 2 ∧ r = 1)
theorem pb_BA {c1 c2 : Int32} (h1 : ¬ 1000000 ≤ c1) (h2 : ¬ 1000000 ≤ c2) (h : ¬ c1 < c2) : pb_B c1 c2 = c2 := by
  unfold pb_B
  rw [pb_st_new h1, pb_st_old h2]
  by_cases z : c1 ≤ c2
  · rw [if_pos z]
    exact Int32.le_antisymm z (Int32.not_lt.mp h)
  · rw [if_neg z]
theorem pb_BB {c1 c2 : Int32} (h1 : ¬ 1000000 ≤ c1) (h2 : c2 = 1000000 ∨ ¬ 1000000 ≤ c2) (h : c1 < c2) : pb_B c1 c2 = c1 := by
  unfold pb_B
  rw [pb_st_new h1]
  rcases h2 with h2 | h2
  · rw [h2, pb_st_far]
  · rw [pb_st_old h2, if_pos (Int32.le_of_lt h)]
theorem pb_W1 {c1 : Int32} (h1 : ¬ 1000000 ≤ c1) : pb_w 1000000 c1 0 0 1 = 1 := by
  unfold pb_w
  rw [if_neg h1, if_neg (by decide), Int32.add_zero, if_neg h1]
  decide
theorem pb_WA {c1 c2 : Int32} (h1 : ¬ 1000000 ≤ c1) (h2 : ¬ 1000000 ≤ c2) (h : ¬ c1 < c2) : pb_W c1 c2 = if c2 = c1 then 2 else 1 := by
  unfold pb_W
  rw [pb_st_new h1, pb_W1 h1]
  unfold pb_w
  rw [if_neg h2, if_neg (by decide), Int32.add_zero]
  by_cases z : c2 = c1
  · rw [if_pos z, if_pos (by rw [z]; exact Int32.le_refl _), if_pos z]
    decide
  · rw [if_neg (fun y => z (Int32.le_antisymm (Int32.not_lt.mp h) y)), if_neg z]
    decide
theorem pb_WB {c1 c2 : Int32} (h1 : ¬ 1000000 ≤ c1) (h2 : c2 = 1000000 ∨ ¬ 1000000 ≤ c2) (h : c1 < c2) : pb_W c1 c2 = 1 := by
  unfold pb_W
  rw [pb_st_new h1, pb_W1 h1]
  unfold pb_w
  rcases h2 with h2 | h2
  · rw [h2, if_pos (by decide)]
  · have z : ¬ c2 = c1 := fun y => by
      rw [y] at h
      exact Int32.lt_irrefl h
    rw [if_neg h2, if_neg (by decide), Int32.add_zero, if_pos (Int32.le_of_lt h), if_neg z]
    decide
end
section
/-! ===== the lines of two words: length, lineCost ===== -/
theorem pb_c0 : (0 : Int32).toNatClampNeg = 0 := by decide
theorem pb_c1 : (1 : Int32).toNatClampNeg = 1 := by decide
theorem pb_c2 : (2 : Int32).toNatClampNeg = 2 := by decide
theorem pb_c11 : ((1 : Int32) - 1).toNatClampNeg = 0 := by decide
theorem pb_len01 {post : Int32 → Prop} {w e c br : Int32} {a1 a2 a3 a4 a5 a6 : Nat → Int32} (hp : post (a1 0)) : wpX_length post (w, e, c, br, a1, a2, a3, a4, a5, a6) 0 1 := by
  intro x ex
  have ex' : x = 0 := ex.trans (by decide)
  subst ex'
  exact ⟨2, br_f (by decide) ⟨pk_in 0 10 (by decide), nm_r (e' := a1 0) (by rw [pb_c0, Int32.zero_add]) (nm_r (e' := 1) (by decide) (br_t (by decide) hp))⟩⟩
theorem pb_len02 {post : Int32 → Prop} {w e c br : Int32} {a1 a2 a3 a4 a5 a6 : Nat → Int32} (hp : post (2 + a1 0 + a1 1)) : wpX_length post (w, e, c, br, a1, a2, a3, a4, a5, a6) 0 2 := by
  intro x ex
  have ex' : x = 2 := ex.trans (by decide)
  subst ex'
  exact ⟨3, br_f (by decide) ⟨pk_in 0 10 (by decide), nm_r (e' := 2 + a1 0) (by rw [pb_c0]) (nm_r (e' := 1) (by decide) (br_f (by decide) ⟨pk_in 1 10 (by decide), nm_r (e' := 2 + a1 0 + a1 1) (by rw [pb_c1]) (nm_r (e' := 2) (by decide) (br_t (by decide) hp))⟩))⟩⟩
theorem pb_len12 {post : Int32 → Prop} {w e c br : Int32} {a1 a2 a3 a4 a5 a6 : Nat → Int32} (hp : post (a1 1)) : wpX_length post (w, e, c, br, a1, a2, a3, a4, a5, a6) 1 2 := by
  intro x ex
  have ex' : x = 0 := ex.trans (by decide)
  subst ex'
  exact ⟨2, br_f (by decide) ⟨pk_in 1 10 (by decide), nm_r (e' := a1 1) (by rw [pb_c1, Int32.zero_add]) (nm_r (e' := 2) (by decide) (br_t (by decide) hp))⟩⟩
theorem pb_79c {post : Int32 → Prop} {z w e c br : Int32} {a1 a2 a3 a4 a5 a6 : Nat → Int32} (hp : post (z + a2 0)) : wX_lineCost_79 post 0 1 z w e c br a1 a2 a3 a4 a5 a6 := by
  have hq : post ((z + a2 ((1 : Int32) - 1).toNatClampNeg) + 0) := by
    rw [pb_c11, Int32.add_zero]
    exact hp
  exact br_t (by decide) (br_t (by decide) ⟨pk_in 0 10 (by decide), hq⟩)
theorem pb_lc01 {post : Int32 → Prop} {w e br : Int32} {a1 a2 a3 a4 a5 a6 : Nat → Int32} (hd : ¬ w - a1 0 < 0) (hb : br = 0 → post 1000000) (hn : ¬ br = 0 → post ((w - a1 0) * (w - a1 0) + a2 0)) :
    wpX_lineCost post (w, e, 2, br, a1, a2, a3, a4, a5, a6) 0 1 := by
  unfold wpX_lineCost
  dsimp only
  refine pb_len01 (nm_e (br_f hd (br_f (by decide) ⟨fun h => hb (h.symm.trans (by decide)), fun h => ?_⟩)))
  exact br_f (by decide) (br_f hd (pb_79c (hn (fun z => h (z.symm ▸ (by decide))))))
theorem pb_lc02 {post : Int32 → Prop} {w e br d : Int32} {a1 a2 a3 a4 a5 a6 : Nat → Int32} (ed : w - (2 + a1 0 + a1 1) = d) (h1 : d < -1 → post 1000000) (h2 : ¬ d < -1 → d < 0 → post (3 * d * d)) (h3 : ¬ d < -1 → ¬ d < 0 → post 0) :
    wpX_lineCost post (w, e, 2, br, a1, a2, a3, a4, a5, a6) 0 2 := by
  unfold wpX_lineCost
  dsimp only
  refine pb_len02 (nm_r (e' := d) ed ⟨fun h => h1 h, fun h => br_t (by decide) (br_t (by decide) ⟨fun z => h2 h z, fun z => h3 h z⟩)⟩)
theorem pb_lc12 {post : Int32 → Prop} {w e br : Int32} {a1 a2 a3 a4 a5 a6 : Nat → Int32} (hd : ¬ w - a1 1 < 0) (hp : post 0) :
    wpX_lineCost post (w, e, 2, br, a1, a2, a3, a4, a5, a6) 1 2 := by
  unfold wpX_lineCost
  dsimp only
  exact pb_len12 (nm_e (br_f hd (br_t (by decide) (br_t (by decide) (br_f hd hp)))))
/-- the three lines of two words: what they cost, whatever the tables hold -/
def pb_LC (w e br : Int32) (a1 a2 : Nat → Int32) (c1 c2 : Int32) : Prop :=
  ∀ (post : Int32 → Prop) (a3 a4 a5 a6 : Nat → Int32), (post c1 → wpX_lineCost post (w, e, 2, br, a1, a2, a3, a4, a5, a6) 0 1) ∧ (post c2 → wpX_lineCost post (w, e, 2, br, a1, a2, a3, a4, a5, a6) 0 2) ∧ (post 0 → wpX_lineCost post (w, e, 2, br, a1, a2, a3, a4, a5, a6) 1 2)
theorem pb_LCm {w e d c2 : Int32} {a1 a2 : Nat → Int32} (h0 : ¬ w - a1 0 < 0) (h1 : ¬ w - a1 1 < 0) (ed : w - (2 + a1 0 + a1 1) = d)
    (k1 : d < -1 → c2 = 1000000) (k2 : ¬ d < -1 → d < 0 → c2 = 3 * d * d) (k3 : ¬ d < -1 → ¬ d < 0 → c2 = 0) :
    pb_LC w e (-1) a1 a2 ((w - a1 0) * (w - a1 0) + a2 0) c2 ∧ pb_LC w e 0 a1 a2 1000000 c2 := by
  constructor
  · intro post a3 a4 a5 a6
    exact ⟨fun hp => pb_lc01 h0 (fun z => absurd z (by decide)) (fun _ => hp), fun hp => pb_lc02 ed (fun z => k1 z ▸ hp) (fun z y => k2 z y ▸ hp) (fun z y => k3 z y ▸ hp), fun hp => pb_lc12 h1 hp⟩
  · intro post a3 a4 a5 a6
    exact ⟨fun hp => pb_lc01 h0 (fun _ => hp) (fun z => absurd rfl z), fun hp => pb_lc02 ed (fun z => k1 z ▸ hp) (fun z y => k2 z y ▸ hp) (fun z y => k3 z y ▸ hp), fun hp => pb_lc12 h1 hp⟩
end
section
/-! ===== leastOnward, findBest, learn ===== -/
theorem pb_ix (n q : Nat) : (nI (n + 1) - 1) * 11 + nI q = nI (n * 11 + q) := by
  rw [nI_pred, show (11 : Int32) = nI 11 from rfl, pk_mul, nI_add]
theorem pb_ix2 (n q : Nat) : nI n * 11 + nI q = nI (n * 11 + q) := by
  rw [show (11 : Int32) = nI 11 from rfl, pk_mul, nI_add]
theorem pb_lo1 {post : Int32 → Prop} {w e br s l x2 : Int32} {a1 a2 a3 a4 a5 a6 : Nat → Int32} {n q k : Nat} (hq : q ≤ 2) (hn : n < 10)
    (hl : ∀ ψ : Int32 → Prop, ψ l → wpX_lineCost ψ (w, e, 2, br, a1, a2, a3, a4, a5, a6) x2 (nI q))
    (hk : wX_leastOnward_8 post (nI (n + 1)) x2 w e 2 br a1 a2 a3 a4 a5 a6 k (pb_st s l (a3 (n * 11 + q))) (nI (q + 1))) :
    wX_leastOnward_8 post (nI (n + 1)) x2 w e 2 br a1 a2 a3 a4 a5 a6 (k + 1) s (nI q) := by
  refine br_f (nI_nlt (a := 2) hq (by decide)) (hl _ ?_)
  refine ⟨pk_in (n * 11 + q) 121 (by omega) (pb_ix n q), nm_r (e' := a3 (n * 11 + q)) (by rw [pb_ix, nI_clamp (by omega)]) ?_⟩
  unfold pb_st at hk
  refine ⟨fun h1 => ?_, fun h1 => ⟨fun h2 => ?_, fun h2 => ⟨fun h3 => ?_, fun h3 => ?_⟩⟩⟩
  · rw [if_pos h1] at hk
    exact nm_r (nI_1 q) hk
  · rw [if_neg h1, if_pos h2] at hk
    exact nm_r (nI_1 q) hk
  · rw [if_neg h1, if_neg h2, if_pos h3] at hk
    exact nm_r (nI_1 q) hk
  · rw [if_neg h1, if_neg h2, if_neg h3] at hk
    exact nm_e (nm_r (nI_1 q) hk)
theorem pb_lo {post : Int32 → Prop} {w e br c1 c2 : Int32} {a1 a2 a3 a4 a5 a6 : Nat → Int32} {n p : Nat} (H : pb_LC w e br a1 a2 c1 c2) (hn : n < 10) (hp : p < 11)
    (h : post (pb_row c1 c2 (fun j => a3 (n * 11 + j)) p)) : wpX_leastOnward post (w, e, 2, br, a1, a2, a3, a4, a5, a6) (nI (n + 1)) (nI p) := by
  intro x ex
  have ex' : x = nI (p + 1) := ex.trans (nI_1 p)
  subst ex'
  match p, hp, h with
  | 0, hp, h =>
    rw [pb_row0] at h
    exact ⟨3, pb_lo1 (q := 1) (l := c1) (by omega) hn (fun ψ => (H ψ a3 a4 a5 a6).1) (pb_lo1 (q := 2) (l := c2) (by omega) hn (fun ψ => (H ψ a3 a4 a5 a6).2.1) (br_t (by decide) h))⟩
  | 1, hp, h =>
    rw [pb_row1] at h
    exact ⟨2, pb_lo1 (q := 2) (l := 0) (by omega) hn (fun ψ => (H ψ a3 a4 a5 a6).2.2) (br_t (by decide) h)⟩
  | p + 2, hp, h =>
    rw [pb_row2] at h
    exact ⟨1, br_t (nI_lt (a := 2) (by omega) (by omega)) h⟩
theorem pb_79 {post : St2 → Prop} {J : Int32 → (Nat → Int32) → (Nat → Int32) → (Nat → Int32) → (Nat → Int32) → (Nat → Int32) → (Nat → Int32) → Prop} {w e br c1 c2 : Int32} {a1 a2 a4 a5 a6 : Nat → Int32} {n : Nat} (H : pb_LC w e br a1 a2 c1 c2) (hn : n < 10) (s : Nat → Int32)
    (h0 : ∀ a b, a < n + 1 → b < 11 → s (a * 11 + b) = pb_F c1 c2 a b)
    (hJ : ∀ s' : Nat → Int32, (∀ a b, a < n + 1 + 1 → b < 11 → s' (a * 11 + b) = pb_F c1 c2 a b) → J (nI (n + 1 + 1)) a1 a2 s' a4 a5 a6) :
    ∃ k, wX_learn_79 post J (nI (n + 1)) w e 2 br k 0 a1 a2 s a4 a5 a6 := by
  refine pk_loop (fun k i s => wX_learn_79 post J (nI (n + 1)) w e 2 br k (nI i) a1 a2 s a4 a5 a6) (fun i s => (∀ a b, a < n + 1 → b < 11 → s (a * 11 + b) = pb_F c1 c2 a b) ∧ ∀ b, b < i → s ((n + 1) * 11 + b) = pb_F c1 c2 (n + 1) b) 11 0 s (by omega) ⟨h0, fun b hb => absurd hb (by omega)⟩ ?_ ?_
  · intro k s h
    refine br_t (nI_lt (a := 10) (b := 11) (by omega) (by omega)) (nm_r (nI_1 (n + 1)) (hJ s (fun a b ha hb => ?_)))
    by_cases z : a = n + 1
    · rw [z]
      exact h.2 b hb
    · exact h.1 a b (by omega) hb
  · intro k i s hi h hw
    refine br_f (nI_nlt (a := 10) (by omega) (by omega)) (pb_lo H hn hi ?_)
    have er : pb_row c1 c2 (fun j => s (n * 11 + j)) i = pb_F c1 c2 (n + 1) i := pb_row_eq (h.1 n 1 (by omega) (by omega)) (h.1 n 2 (by omega) (by omega)) i
    refine ⟨pk_in ((n + 1) * 11 + i) 121 (by omega) (pb_ix2 (n + 1) i), nm_r (e' := upd s ((n + 1) * 11 + i) (pb_F c1 c2 (n + 1) i)) (by rw [er, pb_ix2, nI_clamp (by omega)]) (nm_r (nI_1 i) (hw _ ⟨fun a b ha hb => ?_, fun b hb => ?_⟩))⟩
    · rw [pk_un (by omega)]
      exact h.1 a b ha hb
    · by_cases z : b = i
      · rw [z, pk_us]
      · rw [pk_un (by omega)]
        exact h.2 b (by omega)
theorem pb_71 {post : St2 → Prop} {w e br c1 c2 : Int32} {a1 a2 a4 a5 a6 : Nat → Int32} (H : pb_LC w e br a1 a2 c1 c2) (s : Nat → Int32)
    (h0 : ∀ b, b < 11 → s b = pb_F c1 c2 0 b)
    (hE : ∀ s' : Nat → Int32, (∀ a b, a < 11 → b < 11 → s' (a * 11 + b) = pb_F c1 c2 a b) → ∃ k, wX_learn_121 post k 1 w e 2 br a1 a2 s' a4 a5 a6) :
    ∃ k, wX_learn_71 post w e 2 br k 1 a1 a2 s a4 a5 a6 := by
  refine pk_loop (fun k i s => wX_learn_71 post w e 2 br k (nI i) a1 a2 s a4 a5 a6) (fun i s => 1 ≤ i ∧ ∀ a b, a < i → b < 11 → s (a * 11 + b) = pb_F c1 c2 a b) 11 1 s (by omega) ⟨Nat.le_refl 1, fun a b ha hb => ?_⟩ ?_ ?_
  · have z : a = 0 := by omega
    subst z
    rw [Nat.zero_mul, Nat.zero_add]
    exact h0 b hb
  · intro k s h
    exact br_t (nI_lt (a := 10) (b := 11) (by omega) (by omega)) (nm_r (e' := 1) (by decide) (hE s h.2))
  · intro k i s hi h hw
    obtain ⟨n, rfl⟩ : ∃ n, i = n + 1 := ⟨i - 1, by omega⟩
    exact br_f (nI_nlt (a := 10) (by omega) (by omega)) (pb_79 H (by omega) s h.2 (fun s' h' => hw s' ⟨by omega, h'⟩))
theorem pb_72 {post : St2 → Prop} {J : Int32 → (Nat → Int32) → (Nat → Int32) → (Nat → Int32) → (Nat → Int32) → (Nat → Int32) → (Nat → Int32) → Prop} {w e c br x4 : Int32} {a1 a2 a3 a4 a5 a6 : Nat → Int32} {p q : Nat} (hp : p < 11) (hq : q < 11)
    (hJ : J (nI (q + 1)) a1 a2 a3 a4 a5 (upd a6 p (if x4 = a5 p then a6 p + a6 q else a6 p + 0))) : wX_findBest_72 post J (nI p) (nI q) x4 w e c br a1 a2 a3 a4 a5 a6 := by
  unfold wX_findBest_72
  rw [nI_clamp (show p < 2 ^ 31 by omega), nI_clamp (show q < 2 ^ 31 by omega)]
  refine ⟨pk_in p 11 hp, pk_in p 11 hp, fun h => ?_, fun h => ?_⟩
  · rw [if_pos h] at hJ
    exact ⟨pk_in q 11 hq, pk_in p 11 hp, nm_e (nm_r (nI_1 q) hJ)⟩
  · rw [if_neg h] at hJ
    exact ⟨pk_in p 11 hp, nm_e (nm_r (nI_1 q) hJ)⟩
theorem pb_fb {post : St2 → Prop} {w e br l : Int32} {a1 a2 a3 a4 a5 a6 : Nat → Int32} {p q k : Nat} (hp : p < 11) (hq : q ≤ 2) (hpq : q ≠ p)
    (hl : ∀ ψ : Int32 → Prop, ψ l → wpX_lineCost ψ (w, e, 2, br, a1, a2, a3, a4, a5, a6) (nI p) (nI q))
    (hk : ∀ b5 b6 : Nat → Int32, b5 p = pb_st (a5 p) l (a5 q) → b6 p = pb_w (a5 p) l (a5 q) (a6 p) (a6 q) → (∀ j, j ≠ p → b5 j = a5 j ∧ b6 j = a6 j) → wX_findBest_4 post (nI p) w e 2 br k (nI (q + 1)) a1 a2 a3 a4 b5 b6) :
    wX_findBest_4 post (nI p) w e 2 br (k + 1) (nI q) a1 a2 a3 a4 a5 a6 := by
  refine br_f (nI_nlt (a := 2) hq (by decide)) (hl _ ?_)
  rw [nI_clamp (show p < 2 ^ 31 by omega), nI_clamp (show q < 2 ^ 31 by omega)]
  refine ⟨fun h1 => nm_r (nI_1 q) (hk a5 a6 ?_ ?_ (fun j _ => ⟨rfl, rfl⟩)), fun h1 => ⟨pk_in q 11 (by omega), fun h2 => nm_r (nI_1 q) (hk a5 a6 ?_ ?_ (fun j _ => ⟨rfl, rfl⟩)), fun h2 => ⟨pk_in q 11 (by omega), nm_e ⟨pk_in p 11 hp, fun h3 => pb_72 hp (by omega) (hk _ _ ?_ ?_ (fun j hj => ⟨rfl, pk_un hj⟩)), fun h3 => ⟨pk_in p 11 hp, nm_e ⟨pk_in p 11 hp, nm_e (pb_72 hp (by omega) (hk _ _ ?_ ?_ (fun j hj => ⟨pk_un hj, by rw [pk_un hj, pk_un hj]⟩)))⟩⟩⟩⟩⟩⟩
  · unfold pb_st
    rw [if_pos h1]
  · unfold pb_w
    rw [if_pos h1]
  · unfold pb_st
    rw [if_neg h1, if_pos h2]
  · unfold pb_w
    rw [if_neg h1, if_pos h2]
  · unfold pb_st
    rw [if_neg h1, if_neg h2, if_pos h3]
  · unfold pb_w
    rw [pk_us, if_neg h1, if_neg h2, if_pos h3]
  · unfold pb_st
    rw [pk_us, if_neg h1, if_neg h2, if_neg h3]
  · simp only [pk_us, pk_un hpq, pb_w, h1, h2, h3, if_false, if_true, eq_self]
theorem pb_find1 {post : St2 → Prop} {w e br c1 c2 : Int32} {a1 a2 a3 a4 a5 a6 : Nat → Int32} (H : pb_LC w e br a1 a2 c1 c2)
    (h : ∀ b5 b6 : Nat → Int32, b5 1 = pb_st (a5 1) 0 (a5 2) → b6 1 = pb_w (a5 1) 0 (a5 2) (a6 1) (a6 2) → (∀ j, j ≠ 1 → b5 j = a5 j ∧ b6 j = a6 j) → post (w, e, 2, br, a1, a2, a3, a4, b5, b6)) :
    wpX_findBest post (w, e, 2, br, a1, a2, a3, a4, a5, a6) 1 := by
  intro x ex
  have ex' : x = nI 2 := ex.trans (by decide)
  subst ex'
  exact ⟨2, pb_fb (p := 1) (q := 2) (l := 0) (by omega) (by omega) (by omega) (fun ψ => (H ψ a3 a4 a5 a6).2.2) (fun b5 b6 e5 e6 e => br_t (by decide) (h b5 b6 e5 e6 e))⟩
theorem pb_find0 {post : St2 → Prop} {w e br c1 c2 : Int32} {a1 a2 a3 a4 a5 a6 : Nat → Int32} (H : pb_LC w e br a1 a2 c1 c2)
    (h : ∀ b5 b6 : Nat → Int32, b5 0 = pb_st (pb_st (a5 0) c1 (a5 1)) c2 (a5 2) → b6 0 = pb_w (pb_st (a5 0) c1 (a5 1)) c2 (a5 2) (pb_w (a5 0) c1 (a5 1) (a6 0) (a6 1)) (a6 2) → b5 1 = a5 1 → post (w, e, 2, br, a1, a2, a3, a4, b5, b6)) :
    wpX_findBest post (w, e, 2, br, a1, a2, a3, a4, a5, a6) 0 := by
  intro x ex
  have ex' : x = nI 1 := ex.trans (by decide)
  subst ex'
  refine ⟨3, pb_fb (p := 0) (q := 1) (l := c1) (by omega) (by omega) (by omega) (fun ψ => (H ψ a3 a4 a5 a6).1) (fun b5 b6 e5 e6 e => ?_)⟩
  refine pb_fb (p := 0) (q := 2) (l := c2) (by omega) (by omega) (by omega) (fun ψ => (H ψ a3 a4 b5 b6).2.1) (fun d5 d6 f5 f6 f => br_t (by decide) (h d5 d6 ?_ ?_ ?_))
  · rw [f5, e5, (e 2 (by omega)).1]
  · rw [f6, e5, e6, (e 2 (by omega)).1, (e 2 (by omega)).2]
  · rw [(f 1 (by omega)).1, (e 1 (by omega)).1]
theorem pb_121 {post : St2 → Prop} {w e br c1 c2 : Int32} {a1 a2 a3 a4 a5 a6 : Nat → Int32} (H : pb_LC w e br a1 a2 c1 c2) (h50 : a5 0 = 1000000) (h51 : a5 1 = 1000000) (h52 : a5 2 = 0) (h60 : a6 0 = 0) (h61 : a6 1 = 0) (h62 : a6 2 = 1)
    (hp : ∀ b5 b6 : Nat → Int32, b5 0 = pb_B c1 c2 → b5 1 = 0 → b6 0 = pb_W c1 c2 → post (w, e, 2, br, a1, a2, a3, a4, b5, b6)) :
    ∃ k, wX_learn_121 post k 1 w e 2 br a1 a2 a3 a4 a5 a6 := by
  refine ⟨3, br_f (by decide) (pb_find1 H (fun b5 b6 e5 e6 e => ?_))⟩
  rw [h51, h52] at e5
  rw [h51, h52, h61, h62] at e6
  have e5' : b5 1 = 0 := e5.trans (by decide)
  have e6' : b6 1 = 1 := e6.trans (by decide)
  refine nm_r (e' := 0) (by decide) (br_f (by decide) (pb_find0 H (fun d5 d6 f5 f6 f => ?_)))
  refine nm_r (e' := -1) (by decide) (br_t (by decide) (hp d5 d6 ?_ ?_ ?_))
  · rw [f5, (e 0 (by omega)).1, h50, e5', (e 2 (by omega)).1, h52]
    rfl
  · rw [f, e5']
  · rw [f6, (e 0 (by omega)).1, (e 0 (by omega)).2, h50, e5', e6', (e 2 (by omega)).1, (e 2 (by omega)).2, h52, h60, h62]
    rfl
theorem pb_27 {post : St2 → Prop} {J : Int32 → (Nat → Int32) → (Nat → Int32) → (Nat → Int32) → (Nat → Int32) → (Nat → Int32) → (Nat → Int32) → Prop} {z w e c br : Int32} {a1 a2 a3 a4 a5 a6 : Nat → Int32} {i : Nat} (hi : i < 11)
    (hJ : J (nI (i + 1)) a1 a2 (upd a3 i z) a4 (upd a5 i 1000000) (upd a6 i 0)) : wX_learn_27 post J (nI i) z (nI i) w e c br a1 a2 a3 a4 a5 a6 := by
  unfold wX_learn_27
  rw [nI_clamp (show i < 2 ^ 31 by omega)]
  exact ⟨pk_in i 121 (by omega), nm_e ⟨pk_in i 11 hi, nm_e ⟨pk_in i 11 hi, nm_e (nm_r (nI_1 i) hJ)⟩⟩⟩
/-- the tables, as learn leaves them -/
def pb_K (c1 c2 : Int32) (a3 a5 a6 : Nat → Int32) : Prop := (∀ a b, a < 11 → b < 11 → a3 (a * 11 + b) = pb_F c1 c2 a b) ∧ a5 0 = pb_B c1 c2 ∧ a5 1 = 0 ∧ a6 0 = pb_W c1 c2
theorem pb_learn {post : St2 → Prop} {w e br c1 c2 : Int32} {a1 a2 a3 a4 a5 a6 : Nat → Int32} (H : pb_LC w e br a1 a2 c1 c2)
    (hp : ∀ b3 b5 b6 : Nat → Int32, pb_K c1 c2 b3 b5 b6 → post (w, e, 2, br, a1, a2, b3, a4, b5, b6)) : wpX_learn post (w, e, 2, br, a1, a2, a3, a4, a5, a6) := by
  refine pk_loop (σ := (Nat → Int32) × (Nat → Int32) × (Nat → Int32)) (fun k i s => wX_learn_2 post w e 2 br k (nI i) a1 a2 s.1 a4 s.2.1 s.2.2) (fun i s => ∀ b, b < i → s.1 b = pb_F c1 c2 0 b ∧ s.2.1 b = 1000000 ∧ s.2.2 b = 0) 11 0 (a3, a5, a6) (by omega) (fun b hb => absurd hb (by omega)) ?_ ?_
  · intro k s h
    refine br_t (nI_lt (a := 10) (b := 11) (by omega) (by omega)) ⟨pk_in 2 11 (by decide), nm_r (e' := upd s.2.1 2 0) (by rw [pb_c2]) ⟨pk_in 2 11 (by decide), nm_r (e' := upd s.2.2 2 1) (by rw [pb_c2]) ?_⟩⟩
    refine pb_71 H s.1 (fun b hb => (h b hb).1) (fun s' h' => pb_121 H ?_ ?_ pk_us ?_ ?_ pk_us (fun b5 b6 e0 e1 e2 => hp s' b5 b6 ⟨h', e0, e1, e2⟩))
    · rw [pk_un (by omega)]
      exact (h 0 (by omega)).2.1
    · rw [pk_un (by omega)]
      exact (h 1 (by omega)).2.1
    · rw [pk_un (by omega)]
      exact (h 0 (by omega)).2.2
    · rw [pk_un (by omega)]
      exact (h 1 (by omega)).2.2
  · intro k i s hi h hw
    have G : ∀ z, z = pb_F c1 c2 0 i → wX_learn_2 post w e 2 br k (nI (i + 1)) a1 a2 (upd s.1 i z) a4 (upd s.2.1 i 1000000) (upd s.2.2 i 0) := fun z ez => hw (upd s.1 i z, upd s.2.1 i 1000000, upd s.2.2 i 0) (fun b hb => by
      by_cases y : b = i
      · subst y
        exact ⟨pk_us.trans ez, pk_us, pk_us⟩
      · have t := h b (by omega)
        exact ⟨(pk_un y).trans t.1, (pk_un y).trans t.2.1, (pk_un y).trans t.2.2⟩)
    refine br_f (nI_nlt (a := 10) (by omega) (by omega)) ?_
    exact pk_eq i 2 (fun z => pb_27 hi (G 0 (by rw [z, pb_F02]))) (fun z => pb_27 hi (G 1000000 (by show (1000000 : Int32) = if i = 2 then (0 : Int32) else 1000000; rw [if_neg z])))
theorem pb_start {post : St2 → Prop} {w e br c1 c2 : Int32} {a1 a2 a3 a4 a5 a6 : Nat → Int32} (H : pb_LC w e (-1) a1 a2 c1 c2)
    (hp : ∀ b3 b5 b6 : Nat → Int32, pb_K c1 c2 b3 b5 b6 → post (w, e, 2, -1, a1, a2, b3, a4, b5, b6)) : wpX_start post (w, e, 2, br, a1, a2, a3, a4, a5, a6) := by
  unfold wpX_start
  dsimp only
  exact pb_learn H hp
end
section
/-! ===== the methods that the law calls, over two words ===== -/
theorem pb_cost {post : Int32 → St2 → Prop} {w e br c1 c2 : Int32} {a1 a2 a3 a4 a5 a6 : Nat → Int32} (H : pb_LC w e (-1) a1 a2 c1 c2) (hb : ¬ 1000000 ≤ pb_B c1 c2)
    (hp : ∀ br b3 b4 b5 b6, post (pb_B c1 c2) (w, e, 2, br, a1, a2, b3, b4, b5, b6)) : wpX_cost post (w, e, 2, br, a1, a2, a3, a4, a5, a6) := by
  unfold wpX_cost
  dsimp only
  refine pb_start H (fun b3 b5 b6 hK => ?_)
  dsimp only
  rw [hK.2.1]
  exact br_f hb (hp _ _ _ _ _)
theorem pb_few1 {post : Int32 → Prop} {w e c br : Int32} {a1 a2 a3 a4 a5 a6 : Nat → Int32} {n k : Nat} (hn : n ≤ 10)
    (h : (1000000 ≤ a3 (n * 11) → wX_fewestLines_2 post w e c br a1 a2 a3 a4 a5 a6 k (nI (n + 1))) ∧ (¬ 1000000 ≤ a3 (n * 11) → (a3 (n * 11) = a5 0 → post (nI n)) ∧ (¬ a3 (n * 11) = a5 0 → wX_fewestLines_2 post w e c br a1 a2 a3 a4 a5 a6 k (nI (n + 1))))) :
    wX_fewestLines_2 post w e c br a1 a2 a3 a4 a5 a6 (k + 1) (nI n) := by
  have ix : nI n * 11 = nI (n * 11) := by rw [show (11 : Int32) = nI 11 from rfl, pk_mul]
  refine br_f (nI_nlt (a := 10) hn (by omega)) ?_
  rw [ix, nI_clamp (by omega)]
  exact ⟨pk_in (n * 11) 121 (by omega), fun z => nm_r (nI_1 n) (h.1 z), fun z => ⟨pk_in (n * 11) 121 (by omega), fun y => (h.2 z).1 y, fun y => nm_r (nI_1 n) ((h.2 z).2 y)⟩⟩
theorem pb_Kf {c1 c2 : Int32} {a3 a5 a6 : Nat → Int32} (hK : pb_K c1 c2 a3 a5 a6) (h1 : ¬ 1000000 ≤ c1) : a3 0 = 1000000 ∧ a3 1 = 1000000 ∧ a3 2 = 0 ∧ a3 11 = pb_st 1000000 c2 0 ∧ a3 12 = 0 ∧ a3 22 = c1 := by
  have k0 : a3 0 = _ := hK.1 0 0 (by omega) (by omega)
  have k1 : a3 1 = _ := hK.1 0 1 (by omega) (by omega)
  have k2 : a3 2 = _ := hK.1 0 2 (by omega) (by omega)
  have k3 : a3 11 = _ := hK.1 1 0 (by omega) (by omega)
  have k4 : a3 12 = _ := hK.1 1 1 (by omega) (by omega)
  have k5 : a3 22 = _ := hK.1 2 0 (by omega) (by omega)
  exact ⟨k0.trans (pb_F00 c1 c2), k1.trans (pb_F01 c1 c2), k2.trans (pb_F02 c1 c2), k3.trans (pb_F10 c1 c2), k4.trans (pb_F11 c1 c2), k5.trans (pb_F20 h1)⟩
theorem pb_few {post : Int32 → Prop} {w e c br c1 c2 m r : Int32} {a1 a2 a3 a4 a5 a6 : Nat → Int32} (hK : pb_K c1 c2 a3 a5 a6) (h1 : ¬ 1000000 ≤ c1) (hR : pb_R c1 c2 m r) (hp : post m) :
    wpX_fewestLines post (w, e, c, br, a1, a2, a3, a4, a5, a6) := by
  obtain ⟨k0, k1, k2, k3, k4, k5⟩ := pb_Kf hK h1
  refine ⟨3, pb_few1 (n := 0) (by omega) (br_t (by show (1000000 : Int32) ≤ a3 0; rw [k0]; decide) (pb_few1 (n := 1) (by omega) ?_))⟩
  show (1000000 ≤ a3 11 → _) ∧ (¬ 1000000 ≤ a3 11 → (a3 11 = a5 0 → post 1) ∧ (¬ a3 11 = a5 0 → _))
  rcases hR with ⟨r1, r2, r3, r4⟩ | ⟨r1, r2, r3, r4⟩
  · rw [k3, pb_st_new r1, hK.2.1, pb_BA h1 r1 r2]
    exact br_f r1 (br_t rfl (r3 ▸ hp))
  · have T : wX_fewestLines_2 post w e c br a1 a2 a3 a4 a5 a6 1 (nI (1 + 1)) := by
      refine pb_few1 (n := 2) (by omega) ?_
      show (1000000 ≤ a3 22 → _) ∧ (¬ 1000000 ≤ a3 22 → (a3 22 = a5 0 → post 2) ∧ (¬ a3 22 = a5 0 → _))
      rw [k5, hK.2.1, pb_BB h1 r2 r1]
      exact br_f h1 (br_t rfl (r3 ▸ hp))
    refine ⟨fun _ => T, fun z => br_f (fun y => ?_) T⟩
    rw [hK.2.1, pb_BB h1 r2 r1] at y
    rcases r2 with r2 | r2
    · rw [k3, r2, pb_st_far] at z
      exact z (by decide)
    · rw [k3, pb_st_new r2] at y
      rw [y] at r1
      exact Int32.lt_irrefl r1
theorem pb_m0 {c1 c2 m r : Int32} (hR : pb_R c1 c2 m r) : 0 ≤ m ∧ 0 < m ∧ 0 ≤ r := by
  rcases hR with ⟨_, _, e1, e2⟩ | ⟨_, _, e1, e2⟩ <;> rw [e1, e2] <;> decide
theorem pb_lines {post : Int32 → St2 → Prop} {w e br c1 c2 m r : Int32} {a1 a2 a3 a4 a5 a6 : Nat → Int32} (H : pb_LC w e (-1) a1 a2 c1 c2) (h1 : ¬ 1000000 ≤ c1) (hR : pb_R c1 c2 m r)
    (hp : ∀ br b3 b4 b5 b6, post m (w, e, 2, br, a1, a2, b3, b4, b5, b6)) : wpX_lines post (w, e, 2, br, a1, a2, a3, a4, a5, a6) := by
  unfold wpX_lines
  dsimp only
  refine pb_start H (fun b3 b5 b6 hK => ?_)
  dsimp only
  exact pb_few hK h1 hR (br_t (pb_m0 hR).1 (hp _ _ _ _ _))
theorem pb_keepF {post : Int32 → St2 → Prop} {w e br : Int32} {a1 a2 a3 a4 a5 a6 : Nat → Int32} (H : pb_LC w e 0 a1 a2 1000000 1000000)
    (hp : ∀ br b3 b4 b5 b6, post (-1000000) (w, e, 2, br, a1, a2, b3, b4, b5, b6)) : wpX_costKeeping post (w, e, 2, br, a1, a2, a3, a4, a5, a6) 0 := by
  refine br_f (by decide) (br_t (by decide) (pb_learn H (fun b3 b5 b6 hK => ?_)))
  dsimp only
  rw [hK.2.1, show pb_B 1000000 1000000 = 1000000 by decide]
  exact br_t (by decide) (hp _ _ _ _ _)
theorem pb_keepT {post : Int32 → St2 → Prop} {w e br c2 : Int32} {a1 a2 a3 a4 a5 a6 : Nat → Int32} (H : pb_LC w e 0 a1 a2 1000000 c2) (h2 : ¬ 1000000 ≤ c2)
    (hp : ∀ br b3 b4 b5 b6, post c2 (w, e, 2, br, a1, a2, b3, b4, b5, b6)) : wpX_costKeeping post (w, e, 2, br, a1, a2, a3, a4, a5, a6) 0 := by
  have eb : pb_B 1000000 c2 = c2 := by
    unfold pb_B
    rw [pb_st_far, pb_st_new h2]
  refine br_f (by decide) (br_t (by decide) (pb_learn H (fun b3 b5 b6 hK => ?_)))
  dsimp only
  rw [hK.2.1, eb]
  exact br_f h2 (hp _ _ _ _ _)
theorem pb_upTo {post : St2 → Prop} {w e br c1 c2 : Int32} {a1 a2 a3 a4 a5 a6 : Nat → Int32} (H : pb_LC w e br a1 a2 c1 c2) (h1 : ¬ 1000000 ≤ c1)
    (hp : ∀ b4 : Nat → Int32, b4 1 = c1 → post (w, e, 2, br, a1, a2, a3, b4, a5, a6)) : wpX_findUpTo post (w, e, 2, br, a1, a2, a3, a4, a5, a6) := by
  refine nm_e ⟨2, br_f (by decide) ⟨pk_in 1 11 (by decide), nm_r (e' := upd (upd a4 0 0) 1 1000000) (by rw [pb_c1]) ⟨2, br_f (by decide) ((H _ _ _ _ _).1 (br_f h1 ?_))⟩⟩⟩
  rw [pb_c0, pb_c1, pk_un (show (0 : Nat) ≠ 1 by omega), pk_us, pk_us, Int32.zero_add c1]
  exact ⟨pk_in 0 11 (by decide), br_f (by decide) ⟨pk_in 0 11 (by decide), pk_in 1 11 (by decide), br_f h1 ⟨pk_in 0 11 (by decide), pk_in 1 11 (by decide), nm_e (nm_r (e' := 1) (by decide) (br_t (by decide) (nm_r (e' := 2) (by decide) (br_t (by decide) (hp _ pk_us)))))⟩⟩⟩
theorem pb_cut {post : Int32 → St2 → Prop} {w e br c1 c2 : Int32} {a1 a2 a3 a4 a5 a6 : Nat → Int32} (H : pb_LC w e (-1) a1 a2 c1 c2) (h1 : ¬ 1000000 ≤ c1)
    (hp : ∀ br b3 b4 b5 b6, post c1 (w, e, 2, br, a1, a2, b3, b4, b5, b6)) : wpX_costBreaking post (w, e, 2, br, a1, a2, a3, a4, a5, a6) 0 := by
  refine br_f (by decide) (br_t (by decide) (pb_start H (fun b3 b5 b6 hK => ?_)))
  dsimp only
  refine pb_upTo H h1 (fun b4 e4 => ?_)
  dsimp only
  refine nm_r (e' := 1) (by decide) ?_
  rw [pb_c1, e4, hK.2.2.1, Int32.add_zero]
  exact ⟨pk_in 1 11 (by decide), br_f h1 ⟨pk_in 1 11 (by decide), br_f (by decide) ⟨pk_in 1 11 (by decide), pk_in 1 11 (by decide), hp _ _ _ _ _⟩⟩⟩
theorem pb_fe1 {post : Int32 → Prop} {w e br l x2 x3 : Int32} {a1 a2 a3 a4 a5 a6 : Nat → Int32} {n q k : Nat} (hq : q ≤ 2) (hn : n < 10)
    (hl : ∀ ψ : Int32 → Prop, ψ l → wpX_lineCost ψ (w, e, 2, br, a1, a2, a3, a4, a5, a6) x2 (nI q))
    (h : (¬ 1000000 ≤ l → ¬ 1000000 ≤ a3 (n * 11 + q) → l + a3 (n * 11 + q) = x3 → post (nI q)) ∧ ((1000000 ≤ l ∨ 1000000 ≤ a3 (n * 11 + q) ∨ ¬ l + a3 (n * 11 + q) = x3) → wX_firstEnd_17 post (nI (n + 1)) x2 x3 w e 2 br a1 a2 a3 a4 a5 a6 k (nI (q + 1)))) :
    wX_firstEnd_17 post (nI (n + 1)) x2 x3 w e 2 br a1 a2 a3 a4 a5 a6 (k + 1) (nI q) := by
  refine br_f (nI_nlt (a := 2) hq (by decide)) (hl _ ?_)
  refine ⟨pk_in (n * 11 + q) 121 (by omega) (pb_ix n q), nm_r (e' := a3 (n * 11 + q)) (by rw [pb_ix, nI_clamp (by omega)]) ?_⟩
  exact ⟨fun h1 => nm_r (nI_1 q) (h.2 (Or.inl h1)), fun h1 => ⟨fun h2 => nm_r (nI_1 q) (h.2 (Or.inr (Or.inl h2))), fun h2 => ⟨fun h3 => h.1 h1 h2 h3, fun h3 => nm_r (nI_1 q) (h.2 (Or.inr (Or.inr h3)))⟩⟩⟩
theorem pb_first1 {post : Int32 → Prop} {w e br c1 c2 : Int32} {a1 a2 a3 a4 a5 a6 : Nat → Int32} (H : pb_LC w e br a1 a2 c1 c2) (h2 : ¬ 1000000 ≤ c2) (k1 : a3 1 = 1000000) (k2 : a3 2 = 0) (k3 : a3 11 = c2) (hp : post 2) :
    wpX_firstEnd post (w, e, 2, br, a1, a2, a3, a4, a5, a6) 1 0 := by
  refine ⟨pk_in 11 121 (by decide), nm_r (e' := c2) (by rw [show ((1 : Int32) * 11 + 0).toNatClampNeg = 11 by decide, k3]) (nm_r (e' := 1) (by decide) ⟨3, ?_⟩)⟩
  refine pb_fe1 (n := 0) (q := 1) (l := c1) (by omega) (by omega) (fun ψ => (H ψ a3 a4 a5 a6).1) ⟨fun _ z => absurd (show (1000000 : Int32) ≤ a3 1 by rw [k1]; decide) z, fun _ => ?_⟩
  refine pb_fe1 (n := 0) (q := 2) (l := c2) (by omega) (by omega) (fun ψ => (H ψ a3 a4 a5 a6).2.1) ⟨fun _ _ _ => hp, fun z => ?_⟩
  have z' : 1000000 ≤ c2 ∨ 1000000 ≤ a3 2 ∨ ¬ c2 + a3 2 = c2 := z
  rw [k2, Int32.add_zero] at z'
  rcases z' with z | z | z
  · exact absurd z h2
  · exact absurd z (by decide)
  · exact absurd rfl z
theorem pb_first2 {post : Int32 → Prop} {w e br c1 c2 : Int32} {a1 a2 a3 a4 a5 a6 : Nat → Int32} (H : pb_LC w e br a1 a2 c1 c2) (h1 : ¬ 1000000 ≤ c1) (k4 : a3 12 = 0) (k5 : a3 22 = c1) (hp : post 1) :
    wpX_firstEnd post (w, e, 2, br, a1, a2, a3, a4, a5, a6) 2 0 := by
  refine ⟨pk_in 22 121 (by decide), nm_r (e' := c1) (by rw [show ((2 : Int32) * 11 + 0).toNatClampNeg = 22 by decide, k5]) (nm_r (e' := 1) (by decide) ⟨1, ?_⟩)⟩
  refine pb_fe1 (n := 1) (q := 1) (l := c1) (by omega) (by omega) (fun ψ => (H ψ a3 a4 a5 a6).1) ⟨fun _ _ _ => hp, fun z => ?_⟩
  have z' : 1000000 ≤ c1 ∨ 1000000 ≤ a3 12 ∨ ¬ c1 + a3 12 = c1 := z
  rw [k4, Int32.add_zero] at z'
  rcases z' with z | z | z
  · exact absurd z h1
  · exact absurd z (by decide)
  · exact absurd rfl z
theorem pb_end {post : Int32 → St2 → Prop} {w e br c1 c2 m r : Int32} {a1 a2 a3 a4 a5 a6 : Nat → Int32} (H : pb_LC w e (-1) a1 a2 c1 c2) (h1 : ¬ 1000000 ≤ c1) (hR : pb_R c1 c2 m r)
    (hp : ∀ br b3 b4 b5 b6, post r (w, e, 2, br, a1, a2, b3, b4, b5, b6)) : wpX_endOfLine post (w, e, 2, br, a1, a2, a3, a4, a5, a6) 0 := by
  unfold wpX_endOfLine
  dsimp only
  refine pb_start H (fun b3 b5 b6 hK => ?_)
  dsimp only
  refine pb_few hK h1 hR (br_f (by decide) (br_t (pb_m0 hR).2.1 ⟨2, br_f (by decide) ?_⟩))
  have T : ∀ x : Int32, x = r → ∀ y : Int32, y = 0 + 1 → wX_endOfLine_25 post 0 m w e 2 (-1) a1 a2 b3 a4 b5 b6 1 x y := fun x ex => nm_r (e' := 1) (by decide) (br_t (by decide) (ex ▸ hp _ _ _ _ _))
  obtain ⟨k0, k1, k2, k3, k4, k5⟩ := pb_Kf hK h1
  rcases hR with ⟨r1, r2, r3, r4⟩ | ⟨r1, r2, r3, r4⟩
  · rw [pb_st_new r1] at k3
    subst r3
    rw [Int32.sub_zero]
    exact pb_first1 H r1 k1 k2 k3 (T 2 r4.symm)
  · subst r3
    rw [Int32.sub_zero]
    exact pb_first2 H h1 k4 k5 (T 1 r4.symm)
theorem pb_long {post : Int32 → St2 → Prop} {w e br c1 c2 m r : Int32} {a1 a2 a3 a4 a5 a6 : Nat → Int32} (H : pb_LC w e (-1) a1 a2 c1 c2) (h1 : ¬ 1000000 ≤ c1) (hR : pb_R c1 c2 m r) (ln : Int32) (hln : (r = 2 → ln = 2 + a1 0 + a1 1) ∧ (r = 1 → ln = a1 0))
    (hp : ∀ br b3 b4 b5 b6, post ln (w, e, 2, br, a1, a2, b3, b4, b5, b6)) : wpX_lengthOf post (w, e, 2, br, a1, a2, a3, a4, a5, a6) 0 := by
  unfold wpX_lengthOf
  dsimp only
  refine pb_end H h1 hR (fun br b3 b4 b5 b6 => ?_)
  dsimp only
  refine br_t (pb_m0 hR).2.2 (br_t (by decide) ?_)
  rcases hR with ⟨r1, r2, r3, r4⟩ | ⟨r1, r2, r3, r4⟩
  · have e1 := hln.1 r4
    subst r4
    exact pb_len02 (e1 ▸ hp _ _ _ _ _)
  · have e1 := hln.2 r4
    subst r4
    exact pb_len01 (e1 ▸ hp _ _ _ _ _)
theorem pb_choices {post : Int32 → St2 → Prop} {w e br c1 c2 : Int32} {a1 a2 a3 a4 a5 a6 : Nat → Int32} (H : pb_LC w e (-1) a1 a2 c1 c2)
    (hp : ∀ br b3 b4 b5 b6, post (pb_W c1 c2) (w, e, 2, br, a1, a2, b3, b4, b5, b6)) : wpX_choices post (w, e, 2, br, a1, a2, a3, a4, a5, a6) := by
  unfold wpX_choices
  dsimp only
  refine pb_start H (fun b3 b5 b6 hK => ?_)
  dsimp only
  rw [hK.2.2.2]
  exact hp _ _ _ _ _
end
section
/-! ===== the law ===== -/
theorem pb_154 {post : Int32 → St0 → Prop} {mc ms kc ks : Nat} {x6 x7 x10 x11 x12 z0 w e br c2 m r kp ln : Int32} {a1 a2 a3 a4 a5 a6 : Nat → Int32}
    (H : pb_LC w e (-1) a1 a2 x12 c2) (h1 : ¬ 1000000 ≤ x12) (hb : ¬ 1000000 ≤ pb_B x12 c2) (hR : pb_R x12 c2 m r)
    (hkp : ∀ (ψ : Int32 → St2 → Prop) (br : Int32) (b3 b4 b5 b6 : Nat → Int32), (∀ br b3 b4 b5 b6, ψ kp (w, e, 2, br, a1, a2, b3, b4, b5, b6)) → wpX_costKeeping ψ (w, e, 2, br, a1, a2, b3, b4, b5, b6) 0)
    (hln : (r = 2 → ln = 2 + a1 0 + a1 1) ∧ (r = 1 → ln = a1 0))
    (hend : (z0 = 0 → wL_lawOf_215 post mc ms x6 x7 x10 x11 x12 z0 m kp x12 ln (pb_W x12 c2) x12 (pb_B x12 c2) kc ks) ∧ (¬ z0 = 0 → wL_lawOf_215 post mc ms x6 x7 x10 x11 x12 z0 m kp x12 ln (pb_W x12 c2) x11 (pb_B x12 c2) kc ks)) :
    wL_lawOf_154 post mc ms x6 x7 x10 x11 x12 z0 kc ks w e 2 br a1 a2 a3 a4 a5 a6 := by
  unfold wL_lawOf_154
  refine pb_cost H hb (fun br b3 b4 b5 b6 => ?_)
  dsimp only
  refine pb_lines H h1 hR (fun br b3 b4 b5 b6 => ?_)
  dsimp only
  refine hkp _ _ _ _ _ _ (fun br b3 b4 b5 b6 => ?_)
  dsimp only
  refine pb_cut H h1 (fun br b3 b4 b5 b6 => ?_)
  dsimp only
  refine pb_long H h1 hR ln hln (fun br b3 b4 b5 b6 => ?_)
  dsimp only
  refine pb_choices H (fun br b3 b4 b5 b6 => ?_)
  exact hend
/-- the two words don't fit on a line -/
theorem pb_no {post : Int32 → St0 → Prop} {mc ms kc ks : Nat} {x7 x11 x12 w e br : Int32} {a1 a2 a3 a4 a5 a6 : Nat → Int32} (hp : post 1 ())
    (H : pb_LC w e (-1) a1 a2 x12 1000000) (H0 : pb_LC w e 0 a1 a2 1000000 1000000) (h1 : ¬ 1000000 ≤ x12) :
    wL_lawOf_154 post mc ms (a1 0) x7 0 x11 x12 0 kc ks w e 2 br a1 a2 a3 a4 a5 a6 := by
  have hl : x12 < 1000000 := Int32.not_le.mp h1
  have eb := pb_BB h1 (Or.inl rfl) hl
  have ew := pb_WB h1 (Or.inl rfl) hl
  refine pb_154 (m := 2) (r := 1) (kp := -1000000) (ln := a1 0) H h1 (eb.symm ▸ h1) (Or.inr ⟨hl, Or.inl rfl, rfl, rfl⟩) (fun ψ br b3 b4 b5 b6 h => pb_keepF H0 h) ⟨fun z => absurd z (by decide), fun _ => rfl⟩ ?_
  rw [eb, ew]
  exact br_t rfl (br_t rfl (br_t rfl (br_t rfl (br_t rfl (br_t rfl (br_t rfl (br_t rfl (br_t rfl (br_t rfl (br_t rfl hp))))))))))
/-- they fit, and two lines cost less -/
theorem pb_two {post : Int32 → St0 → Prop} {mc ms kc ks : Nat} {x7 x11 x12 w e br : Int32} {a1 a2 a3 a4 a5 a6 : Nat → Int32} (hp : post 1 ())
    (H : pb_LC w e (-1) a1 a2 x12 x11) (H0 : pb_LC w e 0 a1 a2 1000000 x11) (h1 : ¬ 1000000 ≤ x12) (h2 : ¬ 1000000 ≤ x11) (hl : x12 < x11) :
    wL_lawOf_154 post mc ms (a1 0) x7 1 x11 x12 0 kc ks w e 2 br a1 a2 a3 a4 a5 a6 := by
  have eb := pb_BB h1 (Or.inr h2) hl
  have ew := pb_WB h1 (Or.inr h2) hl
  have hn : ¬ x11 = x12 := fun z => by
    rw [z] at hl
    exact Int32.lt_irrefl hl
  refine pb_154 (m := 2) (r := 1) (kp := x11) (ln := a1 0) H h1 (eb.symm ▸ h1) (Or.inr ⟨hl, Or.inr h2, rfl, rfl⟩) (fun ψ br b3 b4 b5 b6 h => pb_keepT H0 h2 h) ⟨fun z => absurd z (by decide), fun _ => rfl⟩ ?_
  rw [eb, ew]
  exact br_t rfl (br_t rfl (br_t rfl (br_t rfl (br_f (by decide) (br_t rfl (br_t rfl (br_t rfl (br_t rfl (br_f (by decide) (br_f hn (br_t rfl hp)))))))))))
/-- they fit, and one line costs no more -/
theorem pb_one {post : Int32 → St0 → Prop} {mc ms kc ks : Nat} {x11 x12 w e br : Int32} {a1 a2 a3 a4 a5 a6 : Nat → Int32} (hp : post 1 ())
    (H : pb_LC w e (-1) a1 a2 x12 x11) (H0 : pb_LC w e 0 a1 a2 1000000 x11) (h1 : ¬ 1000000 ≤ x12) (h2 : ¬ 1000000 ≤ x11) (hl : ¬ x12 < x11) :
    wL_lawOf_154 post mc ms (a1 0) (a1 1) 1 x11 x12 1 kc ks w e 2 br a1 a2 a3 a4 a5 a6 := by
  have eb := pb_BA h1 h2 hl
  have ew := pb_WA h1 h2 hl
  have el : a1 0 + a1 1 + 2 = 2 + a1 0 + a1 1 := by grind
  refine pb_154 (m := 1) (r := 2) (kp := x11) (ln := a1 0 + a1 1 + 2) H h1 (eb.symm ▸ h2) (Or.inl ⟨h2, hl, rfl, rfl⟩) (fun ψ br b3 b4 b5 b6 h => pb_keepT H0 h2 h) ⟨fun _ => el, fun z => absurd z (by decide)⟩ ?_
  rw [eb, ew]
  refine br_f (by decide) (br_t rfl (br_f (by decide) (br_t rfl (br_f (by decide) (br_t rfl (br_t rfl (br_f (by decide) (br_t rfl (br_f (by decide) ⟨fun z => ?_, fun z => ?_⟩)))))))))
  · rw [if_pos z]
    exact br_t rfl hp
  · rw [if_neg z]
    exact br_t rfl hp
theorem pb_fin {post : Int32 → St0 → Prop} {mc ms kc ks : Nat} {w e br A B P d : Int32} {a1 a2 a3 a4 a5 a6 : Nat → Int32} (hp : post 1 ()) (eA : a1 0 = A) (eB : a1 1 = B) (eP : a2 0 = P) (ed : w - A - B - 2 = d)
    (h0 : ¬ w - A < 0) (h1 : ¬ w - B < 0) (h2 : ¬ 1000000 ≤ (w - A) * (w - A) + P) :
    (d < -1 → wL_lawOf_101 post mc ms w A B P d 0 kc ks w e 2 br a1 a2 a3 a4 a5 a6) ∧ (¬ d < -1 → wL_lawOf_101 post mc ms w A B P d 1 kc ks w e 2 br a1 a2 a3 a4 a5 a6) := by
  subst eA eB eP
  have ed' : w - (2 + a1 0 + a1 1) = d := by
    rw [← ed]
    grind
  refine ⟨fun z => ?_, fun z => ?_⟩
  · obtain ⟨H, H0⟩ := pb_LCm (e := e) (a2 := a2) (c2 := 1000000) h0 h1 ed' (fun _ => rfl) (fun y => absurd z y) (fun y => absurd z y)
    exact ⟨fun _ => nm_e (br_t rfl (pb_no hp H H0 h2)), fun _ => nm_e (br_t rfl (pb_no hp H H0 h2))⟩
  · refine ⟨fun y => ?_, fun y => ?_⟩
    · obtain ⟨H, H0⟩ := pb_LCm (e := e) (a2 := a2) (c2 := 3 * d * d) h0 h1 ed' (fun x => absurd x z) (fun _ _ => rfl) (fun _ x => absurd y x)
      have e1 : d = -1 := by
        rw [Int32.lt_iff_toInt_lt] at z y
        rw [show (-1 : Int32).toInt = -1 by decide] at z
        rw [show (0 : Int32).toInt = 0 by decide] at y
        apply Int32.toInt_inj.mp
        rw [show (-1 : Int32).toInt = -1 by decide]
        omega
      have h3 : ¬ 1000000 ≤ 3 * d * d := by
        rw [e1]
        decide
      exact nm_e (br_f (by decide) ⟨fun x => pb_two hp H H0 h2 h3 x, fun x => pb_one hp H H0 h2 h3 x⟩)
    · obtain ⟨H, H0⟩ := pb_LCm (e := e) (a2 := a2) (c2 := 0) h0 h1 ed' (fun x => absurd x z) (fun _ x => absurd x y) (fun _ _ => rfl)
      exact nm_e (br_f (by decide) ⟨fun x => pb_two hp H H0 h2 (by decide) x, fun x => pb_one hp H H0 h2 (by decide) x⟩)
theorem pb_word {post : Int32 → St2 → Prop} {w e br p0 p1 : Int32} {a1 a2 a3 a4 a5 a6 : Nat → Int32} (c : Nat) (hc : c < 10) (h1 : ¬ p0 < 1) (h2 : ¬ 12 < p0) (h3 : ¬ p1 < -40) (h4 : ¬ 40 < p1) (e1 : p0.toInt8.toInt32 = p0) (e2 : p1.toInt8.toInt32 = p1)
    (hp : ∀ r, post r (w, e, nI (c + 1), br, upd a1 c p0, upd a2 c p1, a3, a4, a5, a6)) : wpX_word post (w, e, nI c, br, a1, a2, a3, a4, a5, a6) p0 p1 := by
  unfold wpX_word
  dsimp only
  rw [e1, e2, nI_clamp (show c < 2 ^ 31 by omega)]
  exact br_f h1 (br_f h2 (br_f h3 (br_f h4 (br_f (by decide) (br_t (nI_lt hc (by decide)) ⟨pk_in c 10 hc, nm_e ⟨pk_in c 10 hc, nm_e (nm_r (nI_1 c) (hp _))⟩⟩)))))
theorem pb_mod (x : Int32) (d : Nat) (D : Int32) (hD : D = nI d) (h0 : 0 < d) (hd : d < 2 ^ 31) : ∃ r, r < d ∧ (x &&& 65535) - (x &&& 65535) / D * D = nI r := by
  obtain ⟨j, hj, ej⟩ := pk_andE x (m := 65535) 16 (by decide)
  refine ⟨j % d, Nat.mod_lt _ h0, ?_⟩
  rw [ej, hD]
  exact pk_rem (by omega) h0 hd
theorem pb_a1 : ∀ a, a < 12 → ¬ nI (1 + a) < 1 ∧ ¬ 12 < nI (1 + a) ∧ (nI (1 + a)).toInt8.toInt32 = nI (1 + a) := by decide +kernel
theorem pb_p1 : ∀ k, k < 81 → ¬ nI k - 40 < -40 ∧ ¬ 40 < nI k - 40 ∧ (nI k - 40).toInt8.toInt32 = nI k - 40 := by decide +kernel
theorem pb_wa {r a : Nat} (ha : a < 12) : nI (12 + r) - nI (1 + a) = nI (11 + r - a) := by
  rw [pk_sub (by omega)]
  congr 1
  omega
theorem pb_sq {r a k : Nat} (hr : r < 20) (ha : a < 12) (hk : k < 81) : ¬ 1000000 ≤ (nI (12 + r) - nI (1 + a)) * (nI (12 + r) - nI (1 + a)) + (nI k - 40) := by
  have ht : (11 + r - a) * (11 + r - a) ≤ 30 * 30 := Nat.mul_le_mul (by omega) (by omega)
  have es : (nI (12 + r) - nI (1 + a)) * (nI (12 + r) - nI (1 + a)) + (nI k - 40) = nI ((11 + r - a) * (11 + r - a) + k) - nI 40 := by
    rw [pb_wa ha, pk_mul, ← nI_add]
    show nI ((11 + r - a) * (11 + r - a)) + (nI k - nI 40) = _
    grind
  rw [es, Int32.le_iff_toInt_le, pk_sub_toInt (by omega) (by omega), show (1000000 : Int32).toInt = 1000000 by decide]
  omega
theorem pb_wn {r a : Nat} (hr : r < 20) (ha : a < 12) : ¬ nI (12 + r) - nI (1 + a) < 0 := by
  rw [pb_wa ha]
  exact nI_pos (by omega)
theorem pb_lawOf {post : Int32 → St0 → Prop} (hp : post 1 ()) (p0 p1 p2 p3 : Int32) : wpL_lawOf post 102 1632 () p0 p1 p2 p3 := by
  obtain ⟨r, hr, er⟩ := pb_mod p3 20 20 rfl (by decide) (by decide)
  obtain ⟨a, ha, ea⟩ := pb_mod p0 12 12 rfl (by decide) (by decide)
  obtain ⟨b, hb, eb⟩ := pb_mod p1 12 12 rfl (by decide) (by decide)
  obtain ⟨k, hk, ek⟩ := pb_mod p2 81 81 rfl (by decide) (by decide)
  unfold wpL_lawOf
  rw [er, ea, eb, ek]
  refine ⟨by decide, nm_r (e' := nI (12 + r)) (nI_add 12 r) ⟨by decide, by decide, 6, 174, by decide, by decide, ?_⟩⟩
  refine ⟨by decide, by decide, by decide, by decide, by decide, by decide, by decide, by decide, by decide, by decide, by decide, by decide, br_t (nI_le (a := 5) (by omega) (by omega)) (br_t (nI_le (b := 60) (by omega) (by decide)) (br_t (by decide) (br_t (by decide) ?_)))⟩
  dsimp only
  obtain ⟨a1, a2, a3⟩ := pb_a1 a ha
  obtain ⟨b1, b2, b3⟩ := pb_a1 b hb
  obtain ⟨k1, k2, k3⟩ := pb_p1 k hk
  refine ⟨by decide, nm_r (e' := nI (1 + a)) (nI_add 1 a) ⟨by decide, nm_r (e' := nI (1 + b)) (nI_add 1 b) ⟨by decide, nm_e ?_⟩⟩⟩
  refine pb_word 0 (by omega) a1 a2 k1 k2 a3 k3 (fun _ => ?_)
  dsimp only
  refine pb_word 1 (by omega) b1 b2 (by decide) (by decide) b3 (by decide) (fun _ => ?_)
  dsimp only
  refine nm_e ?_
  exact pb_fin hp ((pk_un (show (0 : Nat) ≠ 1 by decide)).trans pk_us) pk_us ((pk_un (show (0 : Nat) ≠ 1 by decide)).trans pk_us) rfl (pb_wn hr ha) (pb_wn hr hb) (pb_sq hr ha hk)
theorem pb_cell {post : Int32 → Prop} {L : Nat} {xs : Nat → Int32} {i : Nat} (hL : L ≤ 4) (hi : i < 4) (hp : ∀ r, post r) : wpL_cellAt post L xs () (nI i) :=
  pk_le L i (fun _ => hp _) (fun z => ⟨pk_in i L z, hp _⟩)
theorem i_vc (xs : Nat → Int32) (L : Nat) (hL : L ≤ 4) : wpL_law (fun r => r = 1) L xs :=
  pb_cell (i := 0) hL (by omega) fun r1 => pb_cell (i := 1) hL (by omega) fun r2 => pb_cell (i := 2) hL (by omega) fun r3 => pb_cell (i := 3) hL (by omega) fun r4 =>
    ⟨102, 1632, by decide, by decide, pb_lawOf rfl r1 r2 r3 r4⟩
end
