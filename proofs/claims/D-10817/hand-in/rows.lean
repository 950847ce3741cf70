section
/-- the days before the year 2000 + k -/
def cr_B (k : Nat) : Nat := 365 * k + (k + 3) / 4 - (k + 99) / 100 + (k + 399) / 400
/-- the length of February of the year 2000 + k -/
def cr_feb (k : Nat) : Nat := if (2000 + k) % 4 = 0 ∧ ((2000 + k) % 100 ≠ 0 ∨ (2000 + k) % 400 = 0) then 29 else 28
/-- the length of the month m of the year 2000 + k -/
def cr_len (k m : Nat) : Nat := if m = 2 then cr_feb k else if m = 4 ∨ m = 6 ∨ m = 9 ∨ m = 11 then 30 else 31
/-- the days of the months from m on -/
def cr_R (k : Nat) : Nat → Nat
  | 0 => 0
  | 1 => 337 + cr_feb k
  | 2 => 306 + cr_feb k
  | 3 => 306
  | 4 => 275
  | 5 => 245
  | 6 => 214
  | 7 => 184
  | 8 => 153
  | 9 => 122
  | 10 => 92
  | 11 => 61
  | _ => 31
/-- the least and the greatest value of a field -/
def cr_lo (f : Nat) : Nat := if f = 2 ∨ f = 3 then 1 else 0
def cr_hi (f : Nat) : Nat := if f = 0 then 59 else if f = 1 then 23 else if f = 2 then 31 else if f = 3 then 12 else 6
theorem cr_hi_le (f : Nat) : cr_hi f ≤ 59 := by
  unfold cr_hi
  repeat' split
  all_goals omega
theorem cr_febV (k : Nat) : cr_feb k = 28 ∨ cr_feb k = 29 := by
  unfold cr_feb
  split
  · exact Or.inr rfl
  · exact Or.inl rfl
theorem cr_lenV (k m : Nat) : cr_len k m ≤ 31 := by
  have h := cr_febV k
  unfold cr_len
  repeat' split
  all_goals omega
theorem cr_Rs {k m : Nat} (h1 : 1 ≤ m) (h : m < 12) : cr_R k m = cr_len k m + cr_R k (m + 1) := by
  have e : m = 1 ∨ m = 2 ∨ m = 3 ∨ m = 4 ∨ m = 5 ∨ m = 6 ∨ m = 7 ∨ m = 8 ∨ m = 9 ∨ m = 10 ∨ m = 11 := by omega
  rcases e with rfl | rfl | rfl | rfl | rfl | rfl | rfl | rfl | rfl | rfl | rfl
  all_goals simp [cr_R, cr_len]
  all_goals omega
theorem cr_Bs : ∀ k, k < 400 → cr_B (k + 1) ≤ cr_B k + (337 + cr_feb k) := by decide +kernel
theorem cr_B0 (t : Nat) : cr_B (t / 366) ≤ t := by
  unfold cr_B
  omega
theorem cr_Ble {k : Nat} (h : k ≤ 400) : cr_B k < 2 ^ 30 := by
  unfold cr_B
  omega
theorem cr_r0 {a d : Nat} {D : Int32} (ha : a < 2 ^ 31) (h0 : 0 < d) (hd : d < 2 ^ 31) (hD : D = nI d := by rfl) : nI a - nI a / D * D = 0 ↔ a % d = 0 := by
  subst hD
  rw [pk_rem ha h0 hd, ← nI_0]
  exact nI_eq (Nat.lt_of_le_of_lt (Nat.mod_le a d) ha) (by decide)
theorem cr_dbE {k : Nat} (hk : k ≤ 400) : (((365 * nI k) + ((nI k + 3) / 4)) - ((nI k + 99) / 100)) + ((nI k + 399) / 400) = nI (cr_B k) := by
  have e1 : (365 : Int32) * nI k = nI (365 * k) := pk_mul 365 k
  have e2 : (nI k + 3) / 4 = nI ((k + 3) / 4) := by
    have a : nI k + 3 = nI (k + 3) := nI_add k 3
    rw [a]
    exact pk_div (by omega) (by decide) (by decide)
  have e3 : (nI k + 99) / 100 = nI ((k + 99) / 100) := by
    have a : nI k + 99 = nI (k + 99) := nI_add k 99
    rw [a]
    exact pk_div (by omega) (by decide) (by decide)
  have e4 : (nI k + 399) / 400 = nI ((k + 399) / 400) := by
    have a : nI k + 399 = nI (k + 399) := nI_add k 399
    rw [a]
    exact pk_div (by omega) (by decide) (by decide)
  rw [e1, e2, e3, e4, nI_add, pk_sub (by omega), nI_add]
  rfl
/-- the weekday -/
theorem cr_wd {t : Nat} (ht : t < 146097) : (nI t + 6) - (nI t + 6) / 7 * 7 = nI ((t + 6) % 7) := by
  have a : nI t + 6 = nI (t + 6) := nI_add t 6
  rw [a]
  exact pk_rem (by omega) (by decide) (by decide)
/-- the three arrays that are read: all is allowed, and the bounds of the fields -/
def cr_K (a2 a3 a4 : Nat → Int32) : Prop := (∀ j, j < 20 → a2 j = 1) ∧ (∀ f, f < 5 → a3 f = nI (cr_lo f)) ∧ (∀ f, f < 5 → a4 f = nI (cr_hi f))
/-- a number x and the word z of the law on it: 1 if it is among the first N -/
def cr_G (x z : Int32) (N : Nat) : Prop := (z = 0 ∧ (x < 0 ∨ (¬ x < 0 ∧ nI N ≤ x))) ∨ (z = 1 ∧ ∃ j, j < N ∧ x = nI j)
theorem cr_at {j f : Nat} : (5 * nI j) + nI f = nI (5 * j + f) := by
  have a : (5 : Int32) * nI j = nI (5 * j) := pk_mul 5 j
  rw [a, nI_add]
end
section
theorem cr_init {post : St2 → Prop} {mc ms : Nat} (hc : 4 ≤ mc) (hs : 50 ≤ ms) (H : ∀ a1 a2 a3 a4, cr_K a2 a3 a4 → post (0, 0, 0, a1, a2, a3, a4)) : wpX_init post mc ms (0, 0, 0) := by
  unfold wpX_init
  refine ⟨by omega, by omega, by omega, by omega, by omega, by omega, hc, hs, ?_⟩
  refine pk_loop (fun n i s => wX_init_36 post mc ms 4 50 0 0 0 n (nI i) (fun _ => 0) s (fun _ => 0) (fun _ => 0)) (fun i s => ∀ j, j < i → s j = 1) 20 0 (fun _ => 0) (by omega) (fun j hj => absurd hj (by omega)) ?_ ?_
  · intro n s h
    refine pk_le 20 20 (fun _ => nm_e (nm_e (nm_e (nm_e (nm_e (nm_e (nm_e (H _ _ _ _ ⟨h, ?_, ?_⟩)))))))) (fun z => absurd z (by omega))
    · decide
    · decide
  · intro n i s hi h hw
    refine pk_le 20 i (fun z => absurd z (by omega)) (fun _ => ⟨pk_in i 20 hi, nm_e (nm_r (nI_1 i) (hw _ (fun j hj => ?_)))⟩)
    rw [nI_clamp (by omega)]
    by_cases e : j = i
    · rw [e, pk_us]
    · rw [pk_un e]
      exact h j (by omega)
theorem cr_isRule {post : Int32 → Prop} {x z : Int32} (h : cr_G x z 4) (H : post z) : wpX_isRule post () x := by
  rcases h with ⟨rfl, h | ⟨h, h2⟩⟩ | ⟨rfl, j, hj, rfl⟩
  · exact br_t h H
  · exact br_f h (br_t h2 H)
  · exact br_f (nI_pos (by omega)) (br_f (nI_ge hj (by decide)) H)
theorem cr_isField {post : Int32 → Prop} {x z : Int32} (h : cr_G x z 5) (H : post z) : wpX_isField post () x := by
  rcases h with ⟨rfl, h | ⟨h, h2⟩⟩ | ⟨rfl, j, hj, rfl⟩
  · exact br_t h H
  · exact br_f h (br_t h2 H)
  · exact br_f (nI_pos (by omega)) (br_f (nI_ge hj (by decide)) H)
theorem cr_isDay {post : Int32 → Prop} {x z : Int32} (h : cr_G x z 146097) (H : post z) : wpX_isDay post () x := by
  rcases h with ⟨rfl, h | ⟨h, h2⟩⟩ | ⟨rfl, j, hj, rfl⟩
  · exact br_t h H
  · exact br_f h (br_t h2 H)
  · exact br_f (nI_pos (by omega)) (br_f (nI_ge hj (by decide)) H)
theorem cr_fill {post : Int32 → St2 → Prop} {y m d : Int32} {a1 : Nat → Int64} {a2 a3 a4 : Nat → Int32} {x0 x1 x6 x7 : Int32} (K : cr_K a2 a3 a4) (h0 : cr_G x0 x6 4) (h1 : cr_G x1 x7 5)
    (H0 : x6 = 0 → post (-1) (y, m, d, a1, a2, a3, a4)) (H1 : ¬ x6 = 0 → x7 = 0 → post (-2) (y, m, d, a1, a2, a3, a4))
    (H2 : ¬ x6 = 0 → ¬ x7 = 0 → ∀ b, cr_K b a3 a4 → post 1 (y, m, d, a1, b, a3, a4)) : wpX_fill post (y, m, d, a1, a2, a3, a4) x0 x1 := by
  unfold wpX_fill
  refine cr_isRule h0 (br_c H0 (fun g0 => cr_isField h1 (br_c (H1 g0) (fun g1 => ?_))))
  rcases h0 with ⟨h0, _⟩ | ⟨_, j, hj, rfl⟩
  · exact absurd h0 g0
  rcases h1 with ⟨h1, _⟩ | ⟨_, f, hf, rfl⟩
  · exact absurd h1 g1
  obtain ⟨k2, k3, k4⟩ := K
  rw [cr_at, nI_clamp (show 5 * j + f < 2 ^ 31 by omega)]
  refine ⟨pk_in (5 * j + f) 20 (by omega), br_f (by rw [k2 _ (by omega)]; decide) ?_⟩
  unfold wX_fill_37
  rw [cr_at, nI_clamp (show 5 * j + f < 2 ^ 31 by omega)]
  refine ⟨pk_in (5 * j + f) 20 (by omega), nm_e (H2 g0 g1 _ ⟨fun i hi => ?_, k3, k4⟩)⟩
  by_cases e : i = 5 * j + f
  · rw [e, pk_us]
  · rw [pk_un e]
    exact k2 i hi
theorem cr_isAllowed {post : Int32 → Prop} {y m d : Int32} {a1 : Nat → Int64} {a2 a3 a4 : Nat → Int32} {x : Int32} {j f : Nat} (K : cr_K a2 a3 a4) (hj : j < 4) (hf : f < 5)
    (H : (x < nI (cr_lo f) → post 0) ∧ (¬ x < nI (cr_lo f) → (nI (cr_hi f) < x → post 0) ∧ (¬ nI (cr_hi f) < x → post 1))) : wpX_isAllowed post (y, m, d, a1, a2, a3, a4) (nI j) (nI f) x := by
  obtain ⟨k2, k3, k4⟩ := K
  unfold wpX_isAllowed
  refine nm_r cr_at ?_
  unfold wpX_isValue
  dsimp only
  rw [nI_clamp (show f < 2 ^ 31 by omega), nI_clamp (show 5 * j + f < 2 ^ 31 by omega), k3 f hf, k4 f hf]
  refine ⟨pk_in f 5 hf, br_c (fun z => br_t rfl (H.1 z)) (fun z => ⟨pk_in f 5 hf, br_c (fun w => br_t rfl ((H.2 z).1 w)) (fun w => br_f (by decide) ⟨pk_in (5 * j + f) 20 (by omega), br_f (by rw [k2 _ (by omega)]; decide) ((H.2 z).2 w)⟩)⟩)⟩
theorem cr_allow1 {post : Int32 → Prop} {y m d : Int32} {a1 : Nat → Int64} {a2 a3 a4 : Nat → Int32} {v j f : Nat} (K : cr_K a2 a3 a4) (hj : j < 4) (hf : f < 5) (h1 : cr_lo f ≤ v) (h2 : v ≤ cr_hi f) (H : post 1) : wpX_isAllowed post (y, m, d, a1, a2, a3, a4) (nI j) (nI f) (nI v) :=
  have h3 := cr_hi_le f
  cr_isAllowed K hj hf (br_f (nI_nlt h1 (by omega)) (br_f (nI_nlt h2 (by omega)) H))
theorem cr_allowed {post : Int32 → Prop} {y m d : Int32} {a1 : Nat → Int64} {a2 a3 a4 : Nat → Int32} {x0 x1 x2 x6 x7 x8 x9 : Int32} (K : cr_K a2 a3 a4) (h0 : cr_G x0 x6 4) (h1 : cr_G x1 x7 5)
    (hl : ∀ f, f < 5 → x1 = nI f → x8 = nI (cr_lo f)) (hh : ∀ f, f < 5 → x1 = nI f → x9 = nI (cr_hi f))
    (H0 : x6 = 0 → post (-1)) (H1 : ¬ x6 = 0 → x7 = 0 → post (-2))
    (H2 : ¬ x6 = 0 → ¬ x7 = 0 → (x2 < x8 → post 0) ∧ (¬ x2 < x8 → (x9 < x2 → post 0) ∧ (¬ x9 < x2 → post 1))) : wpX_allowed post (y, m, d, a1, a2, a3, a4) x0 x1 x2 := by
  unfold wpX_allowed
  refine cr_isRule h0 (br_c H0 (fun g0 => cr_isField h1 (br_c (H1 g0) (fun g1 => ?_))))
  rcases h0 with ⟨h0, _⟩ | ⟨_, j, hj, rfl⟩
  · exact absurd h0 g0
  rcases h1 with ⟨h1, _⟩ | ⟨_, f, hf, rfl⟩
  · exact absurd h1 g1
  have h2 := H2 g0 g1
  rw [hl f hf rfl, hh f hf rfl] at h2
  exact cr_isAllowed K hj hf (br_c (fun z => br_t rfl (h2.1 z)) (fun z => br_c (fun w => br_t rfl ((h2.2 z).1 w)) (fun w => br_f (by decide) ((h2.2 z).2 w))))
theorem cr_weekday {post : Int32 → Prop} {u : St2} {x z : Int32} (h : cr_G x z 146097) (H0 : z = 0 → post (-1)) (H1 : ¬ z = 0 → post ((x + 6) - (x + 6) / 7 * 7)) : wpX_weekday post u x := by
  obtain ⟨y, m, d, a1, a2, a3, a4⟩ := u
  unfold wpX_weekday
  exact cr_isDay h (br_c H0 (fun g => ⟨by decide, H1 g⟩))
theorem cr_db {post : Int32 → Prop} {k : Nat} (hk : k ≤ 400) (H : post (nI (cr_B k))) : wpX_daysBefore post () (nI (2000 + k)) := by
  have e : nI (2000 + k) - 2000 = nI k := by
    have a : nI (2000 + k) - 2000 = nI (2000 + k - 2000) := pk_sub (a := 2000 + k) (b := 2000) (by omega)
    rw [a, Nat.add_sub_cancel_left]
  unfold wpX_daysBefore
  refine nm_r e ⟨by decide, by decide, by decide, ?_⟩
  rw [cr_dbE hk]
  exact H
theorem cr_yearOf {post : Int32 → Prop} {t : Nat} (ht : t < 146097) (H : ∀ k, k < 400 → cr_B k ≤ t → t < cr_B (k + 1) → post (nI (2000 + k))) : wpX_yearOf post () (nI t) := by
  have e : 2000 + nI t / 366 = nI (2000 + t / 366) := by
    have a : nI t / 366 = nI (t / 366) := pk_div (a := t) (d := 366) (by omega) (by decide) (by decide)
    rw [a]
    exact nI_add 2000 (t / 366)
  unfold wpX_yearOf
  refine ⟨by decide, nm_r e ?_⟩
  refine lp1 (A1 := Nat) (fun n k => wX_yearOf_10 post (nI t) n (nI (2000 + k))) (fun k => k < 400 ∧ cr_B k ≤ t) (fun k => 400 - k) ?_ (t / 366) ⟨by omega, cr_B0 t⟩
  intro n k hI hw
  obtain ⟨hk, hB⟩ := hI
  have hb := cr_Ble (show k + 1 ≤ 400 by omega)
  have s : nI (2000 + k) + 1 = nI (2000 + (k + 1)) := nI_1 (2000 + k)
  show wX_yearOf_10 post (nI t) (n + 1) (nI (2000 + k))
  unfold wX_yearOf_10
  rw [s]
  refine cr_db (by omega) (pk_lt t (cr_B (k + 1)) (fun z => H k hk hB z) (fun z => nm_e (hw (k + 1) ⟨?_, z⟩ ?_)))
  · have : k ≠ 399 := by
      intro e
      subst e
      have : cr_B (399 + 1) = 146097 := by decide
      omega
    omega
  · show 400 - (k + 1) < 400 - k
    omega
theorem cr_isLeap {post : Int32 → Prop} {k : Nat} (hk : k < 400) (H1 : cr_feb k = 29 → post 1) (H0 : cr_feb k = 28 → post 0) : wpX_isLeap post () (nI (2000 + k)) :=
  ⟨by decide, ek_if (cr_r0 (d := 4) (by omega) (by decide) (by decide)) (fun a => ⟨by decide, ek_if (cr_r0 (d := 100) (by omega) (by decide) (by decide))
    (fun b => ⟨by decide, ek_if (cr_r0 (d := 400) (by omega) (by decide) (by decide)) (fun c => H1 (if_pos ⟨a, Or.inr c⟩)) (fun c => H0 (if_neg (fun t => t.2.elim (fun q => q b) c)))⟩)
    (fun b => H1 (if_pos ⟨a, Or.inl b⟩))⟩) (fun a => H0 (if_neg (fun t => a t.1)))⟩
theorem cr_lengthOf {post : Int32 → Prop} {k m : Nat} (hk : k < 400) (hm : m ≤ 12) (H : post (nI (cr_len k m))) : wpX_lengthOf post () (nI (2000 + k)) (nI m) := by
  have h2 : m = 2 → post (nI (cr_feb k)) := fun e => by
    rw [show cr_len k m = cr_feb k from if_pos e] at H
    exact H
  have h30 : m ≠ 2 → (m = 4 ∨ m = 6 ∨ m = 9 ∨ m = 11) → post 30 := fun e g => by
    rw [show cr_len k m = 30 from (if_neg e).trans (if_pos g)] at H
    exact H
  have h31 : m ≠ 2 → ¬ (m = 4 ∨ m = 6 ∨ m = 9 ∨ m = 11) → post 31 := fun e g => by
    rw [show cr_len k m = 31 from (if_neg e).trans (if_neg g)] at H
    exact H
  unfold wpX_lengthOf
  refine pk_eq m 2 (fun e => cr_isLeap hk (fun g => br_f (by decide) ?_) (fun g => br_t rfl ?_)) (fun e => pk_eq m 4 (fun g => h30 e (by omega)) (fun g1 => pk_eq m 6 (fun g => h30 e (by omega)) (fun g2 => pk_eq m 9 (fun g => h30 e (by omega)) (fun g3 => pk_eq m 11 (fun g => h30 e (by omega)) (fun g4 => h31 e (by omega))))))
  · have h := h2 e
    rw [g] at h
    exact h
  · have h := h2 e
    rw [g] at h
    exact h
end
section
theorem cr_split {post : St2 → Prop} {y m d : Int32} {a1 : Nat → Int64} {a2 a3 a4 : Nat → Int32} {t : Nat} (ht : t < 146097)
    (H : ∀ (y' : Int32) (m' d' : Nat), 1 ≤ m' → m' ≤ 12 → 1 ≤ d' → d' ≤ 31 → post (y', nI m', nI d', a1, a2, a3, a4)) : wpX_split post (y, m, d, a1, a2, a3, a4) (nI t) := by
  unfold wpX_split
  refine cr_yearOf ht (fun k hk h1 h2 => cr_db (by omega) (nm_r (pk_sub h1) ?_))
  have h3 := cr_Bs k hk
  refine lp2 (A1 := Nat) (A2 := Nat) (fun n r m => wX_split_23 post (nI (2000 + k)) d a1 a2 a3 a4 n (nI r) (nI m)) (fun r m => 1 ≤ m ∧ m ≤ 12 ∧ r < cr_R k m ∧ r < 146097) (fun _ m => 12 - m) ?_ (t - cr_B k) 1 ⟨by omega, by omega, ?_, by omega⟩
  · intro n r m hI hw
    obtain ⟨m1, m2, hr, hr2⟩ := hI
    have hl := cr_lenV k m
    refine pk_le 12 m (fun z => nm_r (nI_1 r) (H _ m (r + 1) m1 m2 (by omega) ?_)) (fun z => cr_lengthOf hk m2 (pk_lt r (cr_len k m) (fun w => nm_r (nI_1 r) (H _ m (r + 1) m1 m2 (by omega) (by omega))) (fun w => cr_lengthOf hk m2 (nm_r (pk_sub w) (nm_r (nI_1 m) (hw (r - cr_len k m) (m + 1) ⟨by omega, by omega, ?_, by omega⟩ ?_))))))
    · have e : m = 12 := by omega
      subst e
      have : cr_R k 12 = 31 := rfl
      omega
    · have := cr_Rs (k := k) m1 z
      omega
    · show 12 - (m + 1) < 12 - m
      omega
  · show t - cr_B k < 337 + cr_feb k
    omega
theorem cr_dayFits {post : Int32 → Prop} {y m : Int32} {a1 : Nat → Int64} {a2 a3 a4 : Nat → Int32} {j d t : Nat} (K : cr_K a2 a3 a4) (hj : j < 4) (hd1 : 1 ≤ d) (hd : d ≤ 31) (ht : t < 146097) (H : post 1) : wpX_dayFits post (y, m, nI d, a1, a2, a3, a4) (nI j) (nI t) := by
  have e2 : (5 * nI j) + 2 = nI (5 * j + 2) := cr_at (f := 2)
  have k2 := K.1 (5 * j + 2) (by omega)
  unfold wpX_dayFits
  dsimp only
  rw [cr_wd ht, e2, nI_clamp (show 5 * j + 2 < 2 ^ 31 by omega)]
  refine cr_allow1 (f := 2) K hj (by decide) hd1 hd ⟨by decide, cr_allow1 (f := 4) K hj (by decide) (Nat.zero_le _) (show (t + 6) % 7 ≤ 6 by omega) ⟨pk_in (5 * j + 2) 20 (by omega), br_f (by rw [k2]; decide) ?_⟩⟩
  exact br_f (by decide) (br_f (by decide) (br_f (by decide) H))
theorem cr_isDue {post : Int32 → St2 → Prop} {y m d : Int32} {a1 : Nat → Int64} {a2 a3 a4 : Nat → Int32} {j t : Nat} (K : cr_K a2 a3 a4) (hj : j < 4) (ht : t < 146097) (H : ∀ y' m' d', post 1 (y', m', d', a1, a2, a3, a4)) : wpX_isDue post (y, m, d, a1, a2, a3, a4) (nI j) (nI t) := by
  unfold wpX_isDue
  exact cr_split ht (fun y' m' d' h1 h2 h3 h4 => cr_allow1 (f := 3) K hj (by decide) h1 h2 (br_f (by decide) (cr_dayFits K hj h3 h4 ht (br_f (by decide) (H _ _ _)))))
theorem cr_valuesOf {post : Int32 → Prop} {y m d : Int32} {a1 : Nat → Int64} {a2 a3 a4 : Nat → Int32} {j f : Nat} (K : cr_K a2 a3 a4) (hj : j < 4) (hf : f < 2) (H : post (nI (cr_hi f + 1))) : wpX_valuesOf post (y, m, d, a1, a2, a3, a4) (nI j) (nI f) := by
  have hc : (nI f).toNatClampNeg = f := nI_clamp (by omega)
  have l0 : cr_lo f = 0 := if_neg (by omega)
  have hh := cr_hi_le f
  have k3 : a3 (nI f).toNatClampNeg = nI 0 := by rw [hc, K.2.1 f (by omega), l0]
  have k4 : a4 (nI f).toNatClampNeg = nI (cr_hi f) := by rw [hc, K.2.2 f (by omega)]
  unfold wpX_valuesOf
  refine ⟨pk_in f 5 (by omega), nm_r k3 ?_⟩
  refine pk_loop (σ := Unit) (fun n i _ => wX_valuesOf_10 post (nI j) (nI f) y m d a1 a2 a3 a4 n (nI i) (nI i)) (fun _ _ => True) (cr_hi f + 1) 0 () (by omega) trivial ?_ ?_
  · intro n _ _
    exact ⟨pk_in f 5 (by omega), pk_lt (cr_hi f) (cr_hi f + 1) (fun _ => H) (fun z => absurd z (by omega)) k4⟩
  · intro n i _ hi _ hw
    exact ⟨pk_in f 5 (by omega), pk_lt (cr_hi f) i (fun z => absurd z (by omega)) (fun z => cr_allow1 K hj (by omega) (by omega) z (br_f (by decide) (nm_r (nI_1 i) (nm_r (nI_1 i) (hw () trivial))))) k4⟩
theorem cr_dueOn {post : Int32 → St2 → Prop} {y m d : Int32} {a1 : Nat → Int64} {a2 a3 a4 : Nat → Int32} {x0 x3 x6 x13 : Int32} (K : cr_K a2 a3 a4) (h0 : cr_G x0 x6 4) (h1 : cr_G x3 x13 146097)
    (H0 : x6 = 0 → ∀ u, post (-1) u) (H1 : ¬ x6 = 0 → x13 = 0 → ∀ u, post (-2) u) (H2 : ¬ x6 = 0 → ¬ x13 = 0 → ∀ u, post 1440 u) : wpX_dueOn post (y, m, d, a1, a2, a3, a4) x0 x3 := by
  unfold wpX_dueOn
  refine cr_isRule h0 (br_c (fun g => H0 g _) (fun g0 => cr_isDay h1 (br_c (fun g => H1 g0 g _) (fun g1 => ?_))))
  rcases h0 with ⟨h0, _⟩ | ⟨_, j, hj, rfl⟩
  · exact absurd h0 g0
  rcases h1 with ⟨h1, _⟩ | ⟨_, t, ht, rfl⟩
  · exact absurd h1 g1
  exact cr_isDue K hj ht (fun y' m' d' => br_f (by decide) (cr_valuesOf (f := 0) K hj (by decide) (cr_valuesOf (f := 1) K hj (by decide) (H2 g0 g1 _))))
end
section
theorem cr_yr (x : Int32) : x < 2000 ∨ (¬ x < 2000 ∧ 2400 ≤ x ∧ ¬ x ≤ 2399) ∨ ∃ k, k < 400 ∧ x = nI (2000 + k) := by
  by_cases h : x < 2000
  · exact Or.inl h
  · refine Or.inr ?_
    have h0 : ¬ x < 0 := fun q => h (Int32.lt_trans q (by decide))
    obtain ⟨j, hj, rfl⟩ := nI_of h0
    have h1 : 2000 ≤ j := by
      rcases Nat.lt_or_ge j 2000 with z | z
      · exact absurd (nI_lt z (by decide)) h
      · exact z
    rcases Nat.lt_or_ge j 2400 with z | z
    · exact Or.inr ⟨j - 2000, by omega, by rw [show 2000 + (j - 2000) = j by omega]⟩
    · exact Or.inl ⟨h, nI_le z hj, nI_ge (a := 2399) (by omega) hj⟩
theorem cr_mo (x : Int32) : x < 1 ∨ (¬ x < 1 ∧ 12 < x ∧ ¬ x ≤ 12) ∨ ∃ m, 1 ≤ m ∧ m ≤ 12 ∧ x = nI m := by
  by_cases h : x < 1
  · exact Or.inl h
  · refine Or.inr ?_
    have h0 : ¬ x < 0 := fun q => h (Int32.lt_trans q (by decide))
    obtain ⟨j, hj, rfl⟩ := nI_of h0
    have h1 : 1 ≤ j := by
      rcases Nat.lt_or_ge j 1 with z | z
      · exact absurd (nI_lt z (by decide)) h
      · exact z
    rcases Nat.lt_or_ge 12 j with z | z
    · exact Or.inl ⟨h, nI_lt z hj, nI_ge z hj⟩
    · exact Or.inr ⟨j, h1, z, rfl⟩
theorem cr_leapA {post : Int32 → Prop} {x : Int32} (H1 : post 1) (H0 : post 0) : wpL_leap post () x :=
  have q : wL_leap_13 post x := ⟨by decide, br_c (fun _ => H1) (fun _ => H0)⟩
  ⟨by decide, br_c (fun _ => ⟨by decide, br_c (fun _ => q) (fun _ => H1)⟩) (fun _ => q)⟩
theorem cr_leapG {post : Int32 → Prop} {k : Nat} (hk : k < 400) (H1 : cr_feb k = 29 → post 1) (H0 : cr_feb k = 28 → post 0) : wpL_leap post () (nI (2000 + k)) :=
  ⟨by decide, ek_if (cr_r0 (d := 4) (by omega) (by decide) (by decide)) (fun a => ⟨by decide, ek_if (cr_r0 (d := 100) (by omega) (by decide) (by decide))
    (fun b => ⟨by decide, ek_if (cr_r0 (d := 400) (by omega) (by decide) (by decide)) (fun c => H1 (if_pos ⟨a, Or.inr c⟩)) (fun c => H0 (if_neg (fun t => t.2.elim (fun q => q b) c)))⟩)
    (fun b => H1 (if_pos ⟨a, Or.inl b⟩))⟩)
    (fun a => ⟨by decide, ek_if (cr_r0 (d := 400) (by omega) (by decide) (by decide)) (fun c => absurd c (by omega)) (fun c => H0 (if_neg (fun t => a t.1)))⟩)⟩
/-- what the law does behind monthDays, for an answer r -/
def cr_T (post : Int32 → St0 → Prop) (mc ms : Nat) (x4 x5 r : Int32) (kc ks : Nat) : Prop := ((x5 = 4 → (wL_lawOf_318 post mc ms x4 x5 r kc ks)) ∧ (¬ x5 = 4 → (((x5 = 6 → (wL_lawOf_318 post mc ms x4 x5 r kc ks)) ∧ (¬ x5 = 6 → (((x5 = 9 → (wL_lawOf_318 post mc ms x4 x5 r kc ks)) ∧ (¬ x5 = 9 → (((x5 = 11 → (wL_lawOf_318 post mc ms x4 x5 r kc ks)) ∧ (¬ x5 = 11 → (wL_lawOf_322 post mc ms x4 x5 r 31 kc ks))))))))))))
theorem cr_any {post : Int32 → St0 → Prop} {mc ms kc ks : Nat} {x4 x5 r : Int32} (H : ∀ d, wL_lawOf_345 post mc ms x4 x5 r d kc ks) : cr_T post mc ms x4 x5 r kc ks :=
  have q : ∀ d, wL_lawOf_322 post mc ms x4 x5 r d kc ks := fun d => br_c (fun _ => cr_leapA (br_f (by decide) (H 29)) (br_t rfl (H 28))) (fun _ => H d)
  br_c (fun _ => q 30) (fun _ => br_c (fun _ => q 30) (fun _ => br_c (fun _ => q 30) (fun _ => br_c (fun _ => q 30) (fun _ => q 31))))
theorem cr_good {post : Int32 → St0 → Prop} {mc ms kc ks : Nat} {r : Int32} {k m : Nat} (hk : k < 400) (hm : m ≤ 12) (H : wL_lawOf_345 post mc ms (nI (2000 + k)) (nI m) r (nI (cr_len k m)) kc ks) : cr_T post mc ms (nI (2000 + k)) (nI m) r kc ks := by
  have h2 : m = 2 → wL_lawOf_345 post mc ms (nI (2000 + k)) (nI m) r (nI (cr_feb k)) kc ks := fun e => by
    rw [show cr_len k m = cr_feb k from if_pos e] at H
    exact H
  have h29 : m = 2 → cr_feb k = 29 → wL_lawOf_345 post mc ms (nI (2000 + k)) (nI m) r 29 kc ks := fun e g => by
    have h := h2 e
    rw [g] at h
    exact h
  have h28 : m = 2 → cr_feb k = 28 → wL_lawOf_345 post mc ms (nI (2000 + k)) (nI m) r 28 kc ks := fun e g => by
    have h := h2 e
    rw [g] at h
    exact h
  have h30 : (m = 4 ∨ m = 6 ∨ m = 9 ∨ m = 11) → wL_lawOf_318 post mc ms (nI (2000 + k)) (nI m) r kc ks := fun g => by
    have e : m ≠ 2 := by omega
    rw [show cr_len k m = 30 from (if_neg e).trans (if_pos g)] at H
    exact pk_eq m 2 (fun z => absurd z e) (fun _ => H)
  have h31 : ¬ (m = 4 ∨ m = 6 ∨ m = 9 ∨ m = 11) → wL_lawOf_322 post mc ms (nI (2000 + k)) (nI m) r 31 kc ks := fun g => by
    refine pk_eq m 2 (fun e => cr_leapG hk (fun z => br_f (by decide) (h29 e z)) (fun z => br_t rfl (h28 e z))) (fun e => ?_)
    rw [show cr_len k m = 31 from (if_neg e).trans (if_neg g)] at H
    exact H
  exact pk_eq m 4 (fun g => h30 (by omega)) (fun g1 => pk_eq m 6 (fun g => h30 (by omega)) (fun g2 => pk_eq m 9 (fun g => h30 (by omega)) (fun g3 => pk_eq m 11 (fun g => h30 (by omega)) (fun g4 => h31 (by omega)))))
theorem cr_271 {post : Int32 → St0 → Prop} (hp : post 1 ()) {mc ms kc ks : Nat} {x4 x5 z y m d : Int32} {a1 : Nat → Int64} {a2 a3 a4 : Nat → Int32} : wL_lawOf_271 post mc ms x4 x5 z z kc ks y m d a1 a2 a3 a4 := by
  unfold wL_lawOf_271
  refine br_t rfl ?_
  show wpX_monthDays (fun r => cr_T post mc ms x4 x5 r kc ks) (y, m, d, a1, a2, a3, a4) x4 x5
  unfold wpX_monthDays
  rcases cr_yr x4 with h | ⟨h, h2, h3⟩ | ⟨k, hk, rfl⟩
  · exact br_t h (br_t rfl (cr_any (fun _ => br_t h (br_t rfl hp))))
  · exact br_f h (br_t h2 (br_t rfl (cr_any (fun _ => br_f h (br_f h3 (br_t rfl hp))))))
  · have g1 : ¬ nI (2000 + k) < 2000 := nI_nlt (b := 2000) (by omega) (by omega)
    have g2 : ¬ 2400 ≤ nI (2000 + k) := nI_ge (b := 2400) (by omega) (by decide)
    have g3 : nI (2000 + k) ≤ 2399 := nI_le (b := 2399) (by omega) (by decide)
    refine br_f g1 (br_f g2 (br_f (by decide) ?_))
    rcases cr_mo x5 with h | ⟨h, h2, h3⟩ | ⟨m, hm1, hm, rfl⟩
    · exact br_t h (cr_any (fun _ => br_f g1 (br_t g3 (br_t h (br_t rfl hp)))))
    · exact br_f h (br_t h2 (cr_any (fun _ => br_f g1 (br_t g3 (br_f h (br_f h3 (br_t rfl hp)))))))
    · have k1 : ¬ nI m < 1 := nI_nlt (b := 1) hm1 (by omega)
      have k2 : ¬ 12 < nI m := nI_nlt (a := 12) hm (by decide)
      have k3 : nI m ≤ 12 := nI_le (b := 12) hm (by decide)
      exact br_f k1 (br_f k2 (cr_lengthOf hk hm (cr_good hk hm (br_f g1 (br_t g3 (br_f k1 (br_t k3 (br_t rfl hp))))))))
end
section
theorem cr_gn {x : Int32} {N : Nat} (h : x < 0) : cr_G x 0 N := Or.inl ⟨rfl, Or.inl h⟩
theorem cr_gh {x M : Int32} (N : Nat) (hN : N + 1 < 2 ^ 31) (h : ¬ x < 0) (h2 : M < x) (hM : M = nI N := by rfl) : cr_G x 0 (N + 1) := by
  subst hM
  obtain ⟨j, hj, rfl⟩ := nI_of h
  exact Or.inl ⟨rfl, Or.inr ⟨h, nI_le ((nI_ltI (by omega) hj).mp h2) hj⟩⟩
theorem cr_gg {x M : Int32} (N : Nat) (hN : N + 1 < 2 ^ 31) (h : ¬ x < 0) (h2 : ¬ M < x) (hM : M = nI N := by rfl) : cr_G x 1 (N + 1) := by
  subst hM
  obtain ⟨j, hj, rfl⟩ := nI_of h
  rw [nI_ltI (by omega) hj] at h2
  exact Or.inr ⟨rfl, j, by omega, rfl⟩
theorem cr_233 {post : Int32 → St0 → Prop} (hp : post 1 ()) {mc ms kc ks : Nat} {x0 x3 x4 x5 x6 x13 z y m d : Int32} {a1 : Nat → Int64} {a2 a3 a4 : Nat → Int32} (K : cr_K a2 a3 a4) (h0 : cr_G x0 x6 4) (h3 : cr_G x3 x13 146097) : wL_lawOf_233 post mc ms x0 x3 x4 x5 x6 x13 z z kc ks y m d a1 a2 a3 a4 := by
  unfold wL_lawOf_233
  refine br_t rfl (cr_dueOn K h0 h3 ?_ ?_ ?_)
  · intro g u
    obtain ⟨y', m', d', b1, b2, b3, b4⟩ := u
    exact br_t g (cr_271 hp)
  · intro g0 g1 u
    obtain ⟨y', m', d', b1, b2, b3, b4⟩ := u
    exact br_f g0 (br_t g1 (cr_271 hp))
  · intro g0 g1 u
    obtain ⟨y', m', d', b1, b2, b3, b4⟩ := u
    exact br_f g0 (br_f g1 (cr_271 hp))
theorem cr_205 {post : Int32 → St0 → Prop} (hp : post 1 ()) {mc ms kc ks : Nat} {x0 x3 x4 x5 x6 z y m d : Int32} {a1 : Nat → Int64} {a2 a3 a4 : Nat → Int32} (K : cr_K a2 a3 a4) (h0 : cr_G x0 x6 4) (h3 : cr_G x3 z 146097) : wL_lawOf_205 post mc ms x0 x3 x4 x5 x6 z kc ks y m d a1 a2 a3 a4 := by
  unfold wL_lawOf_205
  exact cr_weekday h3 (fun g => br_t g (cr_233 hp K h0 h3)) (fun g => br_f g ⟨by decide, cr_233 hp K h0 h3⟩)
theorem cr_185 {post : Int32 → St0 → Prop} (hp : post 1 ()) {mc ms kc ks : Nat} {x0 x3 x4 x5 x6 z y m d : Int32} {a1 : Nat → Int64} {a2 a3 a4 : Nat → Int32} (K : cr_K a2 a3 a4) (h0 : cr_G x0 x6 4) : wL_lawOf_185 post mc ms x0 x3 x4 x5 x6 z z kc ks y m d a1 a2 a3 a4 := by
  unfold wL_lawOf_185
  exact br_t rfl (br_c (fun a => cr_205 hp K h0 (cr_gn a)) (fun a => br_c (fun b => cr_205 hp K h0 (cr_gh 146096 (by decide) a b)) (fun b => cr_205 hp K h0 (cr_gg 146096 (by decide) a b))))
theorem cr_132 {post : Int32 → St0 → Prop} (hp : post 1 ()) {mc ms kc ks : Nat} {x0 x1 x2 x3 x4 x5 x6 x7 x8 x9 z y m d : Int32} {a1 : Nat → Int64} {a2 a3 a4 : Nat → Int32} (K : cr_K a2 a3 a4) (h0 : cr_G x0 x6 4) (h1 : cr_G x1 x7 5)
    (hl : ∀ f, f < 5 → x1 = nI f → x8 = nI (cr_lo f)) (hh : ∀ f, f < 5 → x1 = nI f → x9 = nI (cr_hi f)) : wL_lawOf_132 post mc ms x0 x1 x2 x3 x4 x5 x6 x7 x8 x9 z z kc ks y m d a1 a2 a3 a4 := by
  unfold wL_lawOf_132
  refine br_t rfl (cr_allowed K h0 h1 hl hh (fun g => br_t g (cr_185 hp K h0)) (fun g0 g1 => br_f g0 (br_t g1 (cr_185 hp K h0))) (fun g0 g1 => br_c (fun a => br_f g0 (br_f g1 (br_t a ?_))) (fun a => br_c (fun b => br_f g0 (br_f g1 (br_f a (br_t b ?_)))) (fun b => br_f g0 (br_f g1 (br_f a (br_f b (cr_185 hp K h0))))))))
  · exact cr_185 (z := 0) hp K h0
  · exact cr_185 (z := 0) hp K h0
theorem cr_90 {post : Int32 → St0 → Prop} (hp : post 1 ()) {mc ms kc ks : Nat} {x0 x1 x2 x3 x4 x5 x6 x7 x8 x9 : Int32} (hc : kc + 5 ≤ mc) (hs : ks + 57 ≤ ms) (h0 : cr_G x0 x6 4) (h1 : cr_G x1 x7 5)
    (hl : ∀ f, f < 5 → x1 = nI f → x8 = nI (cr_lo f)) (hh : ∀ f, f < 5 → x1 = nI f → x9 = nI (cr_hi f)) : wL_lawOf_90 post mc ms x0 x1 x2 x3 x4 x5 x6 x7 x8 x9 kc ks := by
  unfold wL_lawOf_90
  refine ⟨by omega, by omega, 4, 50, by omega, by omega, cr_init (by omega) (by omega) (fun a1 a2 a3 a4 K => cr_fill K h0 h1 (fun g => ?_) (fun g0 g1 => ?_) (fun g0 g1 b Kb => ?_))⟩
  · exact br_t g (cr_132 hp K h0 h1 hl hh)
  · exact br_f g0 (br_t g1 (cr_132 hp K h0 h1 hl hh))
  · exact br_f g0 (br_f g1 (cr_132 hp Kb h0 h1 hl hh))
theorem cr_at1 {x : Int32} {P : Nat → Prop} (c : Nat) (hc : c < 5) (e : x = nI c) (v : P c) : ∀ f, f < 5 → x = nI f → P f := by
  intro f hf q
  rw [e] at q
  have h := (nI_eq (by omega) (by omega)).mp q
  rw [← h]
  exact v
theorem cr_47 {post : Int32 → St0 → Prop} (hp : post 1 ()) {mc ms kc ks : Nat} {x0 x1 x2 x3 x4 x5 x6 x7 x8 : Int32} (hc : kc + 5 ≤ mc) (hs : ks + 57 ≤ ms) (h0 : cr_G x0 x6 4) (h1 : cr_G x1 x7 5)
    (hl : ∀ f, f < 5 → x1 = nI f → x8 = nI (cr_lo f)) : wL_lawOf_47 post mc ms x0 x1 x2 x3 x4 x5 x6 x7 x8 kc ks := by
  unfold wL_lawOf_47
  refine br_c (fun a => cr_90 hp hc hs h0 h1 hl (cr_at1 (P := fun f => (59 : Int32) = nI (cr_hi f)) 0 (by decide) a rfl)) (fun n0 => br_c (fun a => cr_90 hp hc hs h0 h1 hl (cr_at1 (P := fun f => (23 : Int32) = nI (cr_hi f)) 1 (by decide) a rfl)) (fun n1 => br_c (fun a => cr_90 hp hc hs h0 h1 hl (cr_at1 (P := fun f => (31 : Int32) = nI (cr_hi f)) 2 (by decide) a rfl)) (fun n2 => br_c (fun a => cr_90 hp hc hs h0 h1 hl (cr_at1 (P := fun f => (12 : Int32) = nI (cr_hi f)) 3 (by decide) a rfl)) (fun n3 => cr_90 hp hc hs h0 h1 hl ?_))))
  intro f hf q
  have e : f = 0 ∨ f = 1 ∨ f = 2 ∨ f = 3 ∨ f = 4 := by omega
  rcases e with rfl | rfl | rfl | rfl | rfl
  · exact absurd q n0
  · exact absurd q n1
  · exact absurd q n2
  · exact absurd q n3
  · rfl
theorem cr_30 {post : Int32 → St0 → Prop} (hp : post 1 ()) {mc ms kc ks : Nat} {x0 x1 x2 x3 x4 x5 x6 x7 : Int32} (hc : kc + 5 ≤ mc) (hs : ks + 57 ≤ ms) (h0 : cr_G x0 x6 4) (h1 : cr_G x1 x7 5) : wL_lawOf_30 post mc ms x0 x1 x2 x3 x4 x5 x6 x7 kc ks := by
  unfold wL_lawOf_30
  refine br_c (fun a => cr_47 hp hc hs h0 h1 (cr_at1 (P := fun f => (1 : Int32) = nI (cr_lo f)) 2 (by decide) a rfl)) (fun n2 => br_c (fun a => cr_47 hp hc hs h0 h1 (cr_at1 (P := fun f => (1 : Int32) = nI (cr_lo f)) 3 (by decide) a rfl)) (fun n3 => cr_47 hp hc hs h0 h1 ?_))
  intro f hf q
  have e : f = 0 ∨ f = 1 ∨ f = 2 ∨ f = 3 ∨ f = 4 := by omega
  rcases e with rfl | rfl | rfl | rfl | rfl
  · rfl
  · rfl
  · exact absurd q n2
  · exact absurd q n3
  · rfl
theorem cr_14 {post : Int32 → St0 → Prop} (hp : post 1 ()) {mc ms kc ks : Nat} {x0 x1 x2 x3 x4 x5 x6 : Int32} (hc : kc + 5 ≤ mc) (hs : ks + 57 ≤ ms) (h0 : cr_G x0 x6 4) : wL_lawOf_14 post mc ms x0 x1 x2 x3 x4 x5 x6 kc ks := by
  unfold wL_lawOf_14
  exact br_c (fun a => cr_30 hp hc hs h0 (cr_gn a)) (fun a => br_c (fun b => cr_30 hp hc hs h0 (cr_gh 4 (by decide) a b)) (fun b => cr_30 hp hc hs h0 (cr_gg 4 (by decide) a b)))
theorem cr_lawOf {post : Int32 → St0 → Prop} (hp : post 1 ()) {mc ms : Nat} {x0 x1 x2 x3 x4 x5 : Int32} (hc : 5 ≤ mc) (hs : 57 ≤ ms) : wpL_lawOf post mc ms () x0 x1 x2 x3 x4 x5 := by
  unfold wpL_lawOf
  exact br_c (fun a => cr_14 hp (by omega) (by omega) (cr_gn a)) (fun a => br_c (fun b => cr_14 hp (by omega) (by omega) (cr_gh 3 (by decide) a b)) (fun b => cr_14 hp (by omega) (by omega) (cr_gg 3 (by decide) a b)))
theorem cr_cell {post : Int32 → Prop} {L : Nat} {xs : Nat → Int32} {p : Int32} (i : Nat) (hL : L ≤ 6) (hi : i < 6) (H : ∀ r, post r) (hp : p = nI i := by rfl) : wpL_cellAt post L xs () p :=
  pk_le L i (fun _ => H _) (fun z => ⟨pk_in i L z hp, H _⟩) rfl hp
end
section
theorem i_vc (xs : Nat → Int32) (L : Nat) (hL : L ≤ 6) : wpL_law (fun r => r = 1) L xs :=
  cr_cell 0 hL (by decide) (fun _ => cr_cell 1 hL (by decide) (fun _ => cr_cell 2 hL (by decide) (fun _ => cr_cell 3 hL (by decide) (fun _ => cr_cell 4 hL (by decide) (fun _ => cr_cell 5 hL (by decide) (fun _ => ⟨42, 672, by decide, by decide, cr_lawOf rfl (by decide) (by decide)⟩))))))
end
