section
/-- not the number of a register -/
def tg_no (p : Int32) : Prop := p < 0 ∨ 5 < p
/-- a range that 'set' refuses -/
def tg_bad (p q : Int32) : Prop := p < 0 ∨ q < p ∨ 127 < q
theorem tg_reg (p : Int32) : (∃ k : Nat, k < 6 ∧ p = nI k) ∨ tg_no p := by
  by_cases h : p < 0
  · exact .inr (.inl h)
  · by_cases h5 : 5 < p
    · exact .inr (.inr h5)
    · obtain ⟨j, hj, e⟩ := nI_of2 (M := 5) (n := 5) (by decide) h (Int32.not_lt.mp h5)
      exact .inl ⟨j, by omega, e⟩
theorem tg_rng (p q : Int32) : (∃ l h : Nat, l ≤ h ∧ h ≤ 127 ∧ p = nI l ∧ q = nI h) ∨ tg_bad p q := by
  by_cases h1 : p < 0
  · exact .inr (.inl h1)
  · by_cases h2 : q < p
    · exact .inr (.inr (.inl h2))
    · by_cases h3 : 127 < q
      · exact .inr (.inr (.inr h3))
      · obtain ⟨l, hl, e⟩ := nI_of h1
        have h4 : ¬ q < 0 := fun z => h1 (Int32.lt_of_le_of_lt (Int32.not_lt.mp h2) z)
        obtain ⟨h, hh, e'⟩ := nI_of2 (M := 127) (n := 127) (by decide) h4 (Int32.not_lt.mp h3)
        refine .inl ⟨l, h, ?_, hh, e, e'⟩
        rw [e, e', nI_ltI (by omega) hl] at h2
        omega
theorem tg_127 {h : Nat} (hh : h ≤ 127) : (127 : Int32) - nI h = nI (127 - h) := pk_sub hh
theorem tg_fill {s : Nat → Int32} {i k : Nat} {x : Int32} (hk : k = i) (h : ∀ j, j < i → s j = x) : ∀ j, j < i + 1 → upd s k x j = x := by
  intro j hj
  rw [hk]
  by_cases e : j = i
  · rw [e, pk_us]
  · rw [pk_un e]
    exact h j (by omega)
theorem tg_init {post : St2 → Prop} {mc ms : Nat} {f g : Int32} (hc : 2 ≤ mc) (hs : 12 ≤ ms) (H : ∀ a, (∀ j, j < 6 → a j = 127) → post (f, g, (fun _ => 0), a)) : wpX_init post mc ms (f, g) := by
  unfold wpX_init
  dsimp only
  refine ⟨by omega, by omega, hc, hs, ?_⟩
  exact pk_loop (fun n i s => wX_init_22 post mc ms 2 12 f g n (nI i) (fun _ => 0) s) (fun i s => ∀ j, j < i → s j = 127) 6 0 (fun _ => 0) (by omega) (fun j hj => absurd hj (by omega))
    (fun n s h => pk_le 6 6 (fun _ => H s h) (fun z => absurd z (by omega)))
    (fun n i s hi h hw => pk_le 6 i (fun z => absurd z (by omega)) (fun _ => ⟨pk_in i 6 hi, nm_e (nm_r (nI_1 i) (hw _ (tg_fill (nI_clamp (by omega)) h)))⟩))
theorem tg_is0 {post : Int32 → Prop} {p : Int32} (h : tg_no p) (H : post 0) : wpX_isRegister post () p := by
  unfold wpX_isRegister
  exact br_c (fun _ => H) (fun z => br_t (h.resolve_left z) H)
theorem tg_is1 {post : Int32 → Prop} {k : Nat} (h : k < 6) (H : post 1) : wpX_isRegister post () (nI k) := by
  unfold wpX_isRegister
  exact br_f (nI_pos (by omega)) (br_f (nI_nlt (a := 5) (b := k) (by omega) (by decide)) H)
theorem tg_10 : ¬ (1 : Int32) = 0 := by decide
section
variable {f g : Int32} {a1 a2 : Nat → Int32} {k q : Nat} {x y p r : Int32}
theorem tg_setN {post : Int32 → St2 → Prop} (h : tg_no p) (H : post (-1) (f, g, a1, a2)) : wpX_set post (f, g, a1, a2) p x y := by
  unfold wpX_set
  exact tg_is0 h (br_t rfl H)
theorem tg_setB {post : Int32 → St2 → Prop} (hk : k < 6) (h : tg_bad x y) (H : post (-1) (f, g, a1, a2)) : wpX_set post (f, g, a1, a2) (nI k) x y := by
  unfold wpX_set
  refine tg_is1 hk (br_f tg_10 ?_)
  refine br_c (fun _ => H) (fun z1 => br_c (fun _ => H) (fun z2 => br_f ?_ H))
  exact Int32.not_le.mpr ((h.resolve_left z1).resolve_left z2)
theorem tg_set1 {post : Int32 → St2 → Prop} {l h : Nat} (hk : k < 6) (hl : l ≤ h) (hh : h ≤ 127) (H : post 0 (f, g, upd a1 k (nI l), upd a2 k (nI h))) : wpX_set post (f, g, a1, a2) (nI k) (nI l) (nI h) := by
  unfold wpX_set
  refine tg_is1 hk (br_f tg_10 ?_)
  refine br_f (nI_pos (by omega)) (br_f (nI_nlt hl (by omega)) (br_t (nI_le (b := 127) hh (by decide)) ?_))
  rw [nI_clamp (show k < 2 ^ 31 by omega)]
  exact ⟨vp_in_nI hk (by decide), nm_e ⟨vp_in_nI hk (by decide), nm_e H⟩⟩
theorem tg_lowN {post : Int32 → Prop} (h : tg_no p) (H : post (-1)) : wpX_low post (f, g, a1, a2) p := by
  unfold wpX_low
  exact tg_is0 h (br_t rfl H)
theorem tg_low1 {post : Int32 → Prop} (hk : k < 6) (H : post (a1 k)) : wpX_low post (f, g, a1, a2) (nI k) := by
  unfold wpX_low
  refine tg_is1 hk (br_f tg_10 ?_)
  rw [nI_clamp (show k < 2 ^ 31 by omega)]
  exact ⟨vp_in_nI hk (by decide), H⟩
theorem tg_highN {post : Int32 → Prop} (h : tg_no p) (H : post (-1)) : wpX_high post (f, g, a1, a2) p := by
  unfold wpX_high
  exact tg_is0 h (br_t rfl H)
theorem tg_high1 {post : Int32 → Prop} (hk : k < 6) (H : post (a2 k)) : wpX_high post (f, g, a1, a2) (nI k) := by
  unfold wpX_high
  refine tg_is1 hk (br_f tg_10 ?_)
  rw [nI_clamp (show k < 2 ^ 31 by omega)]
  exact ⟨vp_in_nI hk (by decide), H⟩
theorem tg_apN {post : Int32 → St2 → Prop} (h : tg_no p) (H : post (-1) (f, g, a1, a2)) : wpX_apply post (f, g, a1, a2) p x y := by
  unfold wpX_apply
  exact tg_is0 h (br_t rfl H)
theorem tg_ap1 {post : Int32 → St2 → Prop} (hk : k < 6) (H : post 0 (127 - a2 k, 127 - a1 k, upd a1 k (127 - a2 k), upd a2 k (127 - a1 k))) : wpX_apply post (f, g, a1, a2) (nI k) 0 (nI k) := by
  unfold wpX_apply
  refine tg_is1 hk (br_f tg_10 ?_)
  refine tg_is1 hk (br_f tg_10 ?_)
  refine br_f (by decide) (br_t (by decide) ⟨vp_in_nI hk (by decide), nm_e ⟨vp_in_nI hk (by decide), nm_e (br_t rfl ?_)⟩⟩)
  unfold wpX_keep
  dsimp only
  unfold wX_apply_152
  rw [nI_clamp (show k < 2 ^ 31 by omega)]
  exact ⟨vp_in_nI hk (by decide), nm_e ⟨vp_in_nI hk (by decide), nm_e H⟩⟩
theorem tg_lsN {post : Int32 → Prop} (h : tg_no p) (H : post (-1)) : wpX_less post (f, g, a1, a2) p r := by
  unfold wpX_less
  exact tg_is0 h (br_t rfl H)
theorem tg_lsM {post : Int32 → Prop} (hk : k < 6) (h : tg_no r) (H : post (-1)) : wpX_less post (f, g, a1, a2) (nI k) r := by
  unfold wpX_less
  refine tg_is1 hk (br_f tg_10 ?_)
  exact tg_is0 h (br_t rfl H)
theorem tg_ls1 {post : Int32 → Prop} {s t m : Nat} (hk : k < 6) (hq : q < 6) (e1 : a1 k = nI s) (e2 : a2 q = nI t) (e3 : a2 k = nI m) (e4 : a1 q ≤ nI m) (hs : s < 2 ^ 31) (ht : t < 2 ^ 31) (H : ∀ v : Int32, (s < t → v = 2) → (t ≤ s → v = 0) → post v) : wpX_less post (f, g, a1, a2) (nI k) (nI q) := by
  unfold wpX_less
  refine tg_is1 hk (br_f tg_10 ?_)
  refine tg_is1 hq (br_f tg_10 ?_)
  rw [nI_clamp (show k < 2 ^ 31 by omega), nI_clamp (show q < 2 ^ 31 by omega), e1, e2, e3]
  exact ⟨vp_in_nI hk (by decide), vp_in_nI hq (by decide), br_t e4 ⟨vp_in_nI hk (by decide), vp_in_nI hq (by decide), pk_lt s t (fun z => H 2 (fun _ => rfl) (fun z' => absurd z (by omega))) (fun z => H 0 (fun z' => absurd z (by omega)) (fun _ => rfl)) rfl rfl hs ht⟩⟩
theorem tg_cbN {post : Int32 → St2 → Prop} (h : tg_no p) (H : post (-1) (f, g, a1, a2)) : wpX_combine post (f, g, a1, a2) p x y r := by
  unfold wpX_combine
  exact tg_is0 h (br_t rfl H)
theorem tg_cbM {post : Int32 → St2 → Prop} (hk : k < 6) (h : tg_no r) (H : post (-1) (f, g, a1, a2)) : wpX_combine post (f, g, a1, a2) (nI k) x (nI k) r := by
  unfold wpX_combine
  refine tg_is1 hk (br_f tg_10 ?_)
  refine tg_is1 hk (br_f tg_10 ?_)
  exact tg_is0 h (br_t rfl H)
theorem tg_les {post : Int32 → Prop} {s t : Nat} (hs : s < 2 ^ 31) (ht : t < 2 ^ 31) (H : post (nI (min s t))) : wpX_lesser post () (nI s) (nI t) := by
  unfold wpX_lesser
  refine pk_le t s (fun z => ?_) (fun z => ?_) rfl rfl ht hs
  · rw [Nat.min_eq_right z] at H
    exact H
  · rw [Nat.min_eq_left (Nat.le_of_lt z)] at H
    exact H
theorem tg_gre {post : Int32 → Prop} {s t : Nat} (hs : s < 2 ^ 31) (ht : t < 2 ^ 31) (H : post (nI (max s t))) : wpX_greater post () (nI s) (nI t) := by
  unfold wpX_greater
  refine pk_le s t (fun z => ?_) (fun z => ?_) rfl rfl hs ht
  · rw [Nat.max_eq_right z] at H
    exact H
  · rw [Nat.max_eq_left (Nat.le_of_lt z)] at H
    exact H
theorem tg_cb1 {post : Int32 → St2 → Prop} {s t m n : Nat} (hk : k < 6) (hq : q < 6) (e1 : a1 k = nI s) (e2 : a1 q = nI t) (e3 : a2 k = nI m) (e4 : a2 q = nI n) (hs : s ≤ m) (hm : m ≤ 127) (ht : t ≤ n) (hn : n ≤ 127)
    (H : post 0 (nI (min s t), nI (max m n), upd a1 k (nI (min s t)), upd a2 k (nI (max m n)))) : wpX_combine post (f, g, a1, a2) (nI k) 9 (nI k) (nI q) := by
  unfold wpX_combine
  refine tg_is1 hk (br_f tg_10 ?_)
  refine tg_is1 hk (br_f tg_10 ?_)
  refine tg_is1 hq (br_f tg_10 ?_)
  refine br_f (by decide) (br_t (by decide) (br_t (by decide) (br_t (by decide) (br_t (by decide) (br_f (by decide) ?_)))))
  unfold wpX_compareEnds
  dsimp only
  refine br_t rfl ?_
  rw [nI_clamp (show k < 2 ^ 31 by omega), nI_clamp (show q < 2 ^ 31 by omega), e1, e2, e3, e4]
  refine ⟨vp_in_nI hk (by decide), vp_in_nI hq (by decide), tg_les (by omega) (by omega) ⟨vp_in_nI hk (by decide), vp_in_nI hq (by decide), tg_gre (by omega) (by omega) ?_⟩⟩
  unfold wpX_keep
  dsimp only
  unfold wX_combine_130
  rw [nI_clamp (show k < 2 ^ 31 by omega)]
  exact br_t (nI_le (by omega) (by omega)) ⟨vp_in_nI hk (by decide), nm_e ⟨vp_in_nI hk (by decide), nm_e H⟩⟩
end
end
section
/-- the table behind 'set': register k holds l .. h, every other one 0 .. 127 -/
def tg_A (k l h : Nat) (a1 a2 : Nat → Int32) : Prop := k < 6 ∧ l ≤ h ∧ h ≤ 127 ∧ a1 k = nI l ∧ a2 k = nI h ∧ ∀ j, j < 6 → j ≠ k → a1 j = nI 0 ∧ a2 j = nI 127
/-- the table behind 'apply' of kind 0: register k holds 127 - h .. 127 - l -/
def tg_B (k l h : Nat) (a1 a2 : Nat → Int32) : Prop := k < 6 ∧ l ≤ h ∧ h ≤ 127 ∧ a1 k = nI (127 - h) ∧ a2 k = nI (127 - l) ∧ ∀ j, j < 6 → j ≠ k → a1 j = nI 0 ∧ a2 j = nI 127
section
variable {post : Int32 → St0 → Prop} {mc ms kc ks : Nat} {f g : Int32} {a1 a2 : Nat → Int32} {k l h q : Nat} {x0 x1 x2 x3 z0 : Int32}
theorem tg_319 {z z' : Int32} (e : z' = z) (H : post 1 ()) : wL_lawOf_319 post mc ms z z' kc ks := by
  unfold wL_lawOf_319
  exact br_t e H
/-- the second register is refused -/
theorem tg_246n {x10 : Int32} (B : tg_B k l h a1 a2) (n : tg_no x3) (H : post 1 ()) : wL_lawOf_246 post mc ms (nI k) x3 1 (nI h) 0 x10 (-1) kc ks f g a1 a2 := by
  obtain ⟨hk, hl, hh, e1, e2, e3⟩ := B
  unfold wL_lawOf_246
  refine tg_lsM hk n (br_t rfl ?_)
  refine tg_cbM hk n ?_
  refine br_t rfl ?_
  unfold wL_lawOf_282
  refine br_t rfl ?_
  refine tg_low1 hk ?_
  refine br_f tg_10 (br_t rfl ?_)
  unfold wL_lawOf_314
  exact tg_319 (by rw [e1, tg_127 hh]) H
/-- the second register is the first -/
theorem tg_246s (B : tg_B k l h a1 a2) (h0 : l = h → z0 = 0) (h2 : l ≠ h → z0 = 2) (H : post 1 ()) : wL_lawOf_246 post mc ms (nI k) (nI k) 1 (nI h) 1 1 z0 kc ks f g a1 a2 := by
  obtain ⟨hk, hl, hh, e1, e2, e3⟩ := B
  unfold wL_lawOf_246
  refine tg_ls1 hk hk e1 e2 e2 (by rw [e1]; exact nI_le (by omega) (by omega)) (by omega) (by omega) (fun v v2 v0 => ?_)
  have ev : v = z0 := by
    by_cases e : l = h
    · rw [v0 (by omega), h0 e]
    · rw [v2 (by omega), h2 e]
  refine br_t ev ?_
  refine tg_cb1 hk hk e1 e1 e2 e2 (by omega) (by omega) (by omega) (by omega) ?_
  refine br_f tg_10 ?_
  unfold wL_lawOf_282
  refine br_t rfl ?_
  refine tg_low1 hk ?_
  refine br_f tg_10 (br_f tg_10 (br_f tg_10 ?_))
  unfold wL_lawOf_314
  exact tg_319 (by rw [pk_us, tg_127 hh, Nat.min_self]) H
/-- the second register is another one -/
theorem tg_246d (B : tg_B k l h a1 a2) (hq : q < 6) (hd : q ≠ k) (h0 : h = 0 → z0 = 0) (h2 : h ≠ 0 → z0 = 2) (H : post 1 ()) : wL_lawOf_246 post mc ms (nI k) (nI q) 1 (nI h) 1 0 z0 kc ks f g a1 a2 := by
  obtain ⟨hk, hl, hh, e1, e2, e3⟩ := B
  obtain ⟨e4, e5⟩ := e3 q hq hd
  unfold wL_lawOf_246
  refine tg_ls1 hk hq e1 e5 e2 (by rw [e4]; exact nI_le (by omega) (by omega)) (by omega) (by omega) (fun v v2 v0 => ?_)
  have ev : v = z0 := by
    by_cases e : h = 0
    · rw [v0 (by omega), h0 e]
    · rw [v2 (by omega), h2 e]
  refine br_t ev ?_
  refine tg_cb1 hk hq e1 e4 e2 e5 (by omega) (by omega) (by omega) (by omega) ?_
  refine br_f tg_10 ?_
  unfold wL_lawOf_282
  refine br_t rfl ?_
  refine tg_low1 hk ?_
  refine br_f tg_10 (br_f tg_10 (br_t rfl ?_))
  exact tg_319 (by rw [pk_us, Nat.min_zero, nI_0]) H
theorem tg_192 (B : tg_B k l h a1 a2) (n : tg_no x3) (H : post 1 ()) : wL_lawOf_192 post mc ms (nI k) x3 1 (nI l) (nI h) kc ks f g a1 a2 := by
  unfold wL_lawOf_192 wL_lawOf_193
  refine br_c (fun _ => ?_) (fun _ => ?_)
  · unfold wL_lawOf_205
    exact br_t rfl (tg_246n B n H)
  · unfold wL_lawOf_205
    exact br_t rfl (tg_246n B n H)
theorem tg_193 (B : tg_B k l h a1 a2) (hq : q < 6) (H : post 1 ()) : wL_lawOf_193 post mc ms (nI k) (nI q) 1 (nI l) (nI h) 1 kc ks f g a1 a2 := by
  have B' := B
  obtain ⟨hk, hl, hh, e1, e2, e3⟩ := B'
  unfold wL_lawOf_193
  refine pk_eq q k (fun e => ?_) (fun e => ?_)
  · subst e
    unfold wL_lawOf_205
    refine br_f tg_10 (br_f tg_10 (pk_eq l h (fun z => ?_) (fun z => ?_)))
    · exact tg_246s B (fun _ => rfl) (fun z' => absurd z z') H
    · exact tg_246s B (fun z' => absurd z' z) (fun _ => rfl) H
  · unfold wL_lawOf_205
    refine br_f tg_10 (br_t rfl (pk_eq h 0 (fun z => ?_) (fun z => ?_)))
    · exact tg_246d B hq e (fun _ => rfl) (fun z' => absurd z z') H
    · exact tg_246d B hq e (fun z' => absurd z' z) (fun _ => rfl) H
theorem tg_169 (B : tg_B k l h a1 a2) {z : Int32} (H : post 1 ()) : wL_lawOf_169 post mc ms (nI k) x3 1 (nI l) (nI h) z z kc ks f g a1 a2 := by
  unfold wL_lawOf_169
  refine br_t rfl (br_f tg_10 ?_)
  rcases tg_reg x3 with ⟨q, hq, rfl⟩ | n
  · exact br_f (nI_pos (by omega)) (br_f (nI_nlt (a := 5) (b := q) (by omega) (by decide)) (tg_193 B hq H))
  · exact br_c (fun _ => tg_192 B n H) (fun z => br_t (n.resolve_left z) (tg_192 B n H))
theorem tg_126 (A : tg_A k l h a1 a2) (H : post 1 ()) : wL_lawOf_126 post mc ms (nI k) x3 1 (nI l) (nI h) kc ks f g a1 a2 := by
  obtain ⟨hk, hl, hh, e1, e2, e3⟩ := A
  unfold wL_lawOf_126
  refine tg_ap1 hk ?_
  refine br_f tg_10 ?_
  have B : tg_B k l h (upd a1 k (127 - a2 k)) (upd a2 k (127 - a1 k)) := by
    refine ⟨hk, hl, hh, ?_, ?_, fun j hj hd => ?_⟩
    · rw [pk_us, e2, tg_127 hh]
    · rw [pk_us, e1, tg_127 (by omega)]
    · rw [pk_un hd, pk_un hd]
      exact e3 j hj hd
  unfold wL_lawOf_146
  refine br_t rfl ?_
  refine tg_high1 hk ?_
  refine br_f tg_10 ?_
  rw [pk_us]
  rw [e1] at B ⊢
  exact tg_169 B H
/-- the first register is refused: every answer is -1 -/
theorem tg_none (n : tg_no x0) (H : post 1 ()) : wL_lawOf_22 post mc ms x0 x1 x2 x3 kc ks f g a1 a2 := by
  have T : ∀ z : Int32, wL_lawOf_205 post mc ms x0 x3 0 0 127 0 z kc ks f g a1 a2 := by
    intro z
    unfold wL_lawOf_205
    refine br_t rfl ?_
    unfold wL_lawOf_246
    refine tg_lsN n (br_t rfl ?_)
    refine tg_cbN n ?_
    refine br_t rfl ?_
    unfold wL_lawOf_282
    refine br_t rfl ?_
    refine tg_lowN n ?_
    exact br_t rfl (tg_319 rfl H)
  unfold wL_lawOf_22 wL_lawOf_23
  refine br_t rfl ?_
  unfold wL_lawOf_49 wL_lawOf_50
  refine tg_setN n ?_
  refine br_t rfl ?_
  unfold wL_lawOf_70
  refine br_t rfl ?_
  refine tg_lowN n ?_
  refine br_t rfl ?_
  unfold wL_lawOf_98
  refine br_t rfl (br_t rfl ?_)
  unfold wL_lawOf_113
  refine br_t rfl ?_
  unfold wL_lawOf_126
  refine tg_apN n ?_
  refine br_t rfl ?_
  unfold wL_lawOf_146
  refine br_t rfl ?_
  refine tg_highN n ?_
  refine br_t rfl ?_
  unfold wL_lawOf_169
  refine br_t rfl (br_t rfl ?_)
  unfold wL_lawOf_192 wL_lawOf_193
  exact br_c (fun _ => T 1) (fun _ => T 0)
/-- 'set' refuses the range -/
theorem tg_49 (hk : k < 6) (b : tg_bad x1 x2) (c1 : ∀ j, j < 6 → a1 j = 0) (c2 : ∀ j, j < 6 → a2 j = 127) (H : post 1 ()) : wL_lawOf_49 post mc ms (nI k) x1 x2 x3 1 kc ks f g a1 a2 := by
  have A : tg_A k 0 127 a1 a2 := ⟨hk, by omega, by omega, c1 k hk, c2 k hk, fun j hj _ => ⟨c1 j hj, c2 j hj⟩⟩
  unfold wL_lawOf_49 wL_lawOf_50
  refine tg_setB hk b ?_
  refine br_t rfl ?_
  unfold wL_lawOf_70
  refine br_t rfl ?_
  refine tg_low1 hk ?_
  refine br_f tg_10 (br_t rfl ?_)
  unfold wL_lawOf_98
  refine br_t (c1 k hk) (br_t rfl ?_)
  unfold wL_lawOf_113
  exact br_t rfl (tg_126 A H)
theorem tg_23 (hk : k < 6) (c1 : ∀ j, j < 6 → a1 j = 0) (c2 : ∀ j, j < 6 → a2 j = 127) (H : post 1 ()) : wL_lawOf_23 post mc ms (nI k) x1 x2 x3 1 kc ks f g a1 a2 := by
  unfold wL_lawOf_23
  refine br_f tg_10 ?_
  rcases tg_rng x1 x2 with ⟨l, h, hl, hh, rfl, rfl⟩ | b
  · refine br_f (nI_pos (by omega)) (br_f (nI_nlt hl (by omega)) (br_f (nI_nlt (a := 127) (b := h) hh (by decide)) ?_))
    have A : tg_A k l h (upd a1 k (nI l)) (upd a2 k (nI h)) := ⟨hk, hl, hh, pk_us, pk_us, fun j hj hd => ⟨by rw [pk_un hd]; exact c1 j hj, by rw [pk_un hd]; exact c2 j hj⟩⟩
    unfold wL_lawOf_50
    refine tg_set1 hk hl hh ?_
    refine br_f tg_10 ?_
    unfold wL_lawOf_70
    refine br_t rfl ?_
    refine tg_low1 hk ?_
    refine br_f tg_10 (br_f tg_10 ?_)
    unfold wL_lawOf_98
    refine br_t pk_us (br_f tg_10 ?_)
    unfold wL_lawOf_113
    exact br_f tg_10 (tg_126 A H)
  · have Q := tg_49 (post := post) (mc := mc) (ms := ms) (kc := kc) (ks := ks) (f := f) (g := g) (x3 := x3) hk b c1 c2 H
    exact br_c (fun _ => Q) (fun z1 => br_c (fun _ => Q) (fun z2 => br_t ((b.resolve_left z1).resolve_left z2) Q))
theorem tg_lawOf (hc : 3 ≤ mc) (hs : 16 ≤ ms) (H : post 1 ()) : wpL_lawOf post mc ms () x0 x1 x2 x3 := by
  unfold wpL_lawOf
  refine ⟨by omega, by omega, 2, 12, by omega, by omega, ?_⟩
  refine tg_init (by omega) (by omega) (fun a ha => ?_)
  rcases tg_reg x0 with ⟨k, hk, rfl⟩ | n
  · exact br_f (nI_pos (by omega)) (br_f (nI_nlt (a := 5) (b := k) (by omega) (by decide)) (tg_23 hk (fun _ _ => rfl) ha H))
  · exact br_c (fun _ => tg_none n H) (fun z => br_t (n.resolve_left z) (tg_none n H))
end
end
section
theorem tg_cell {post : Int32 → Prop} {L : Nat} {xs : Nat → Int32} (hL : L ≤ 4) (i : Nat) (hi : i ≤ 3) (H : ∀ r, post r) : wpL_cellAt post L xs () (nI i) := by
  unfold wpL_cellAt
  exact pk_le L i (fun _ => H _) (fun z => ⟨vp_in_nI z (by omega), H _⟩)
theorem i_vc (xs : Nat → Int32) (L : Nat) (hL : L ≤ 4) : wpL_law (fun r => r = 1) L xs := by
  unfold wpL_law
  refine tg_cell hL 0 (by omega) (fun r1 => ?_)
  refine tg_cell hL 1 (by omega) (fun r2 => ?_)
  refine tg_cell hL 2 (by omega) (fun r3 => ?_)
  refine tg_cell hL 3 (by omega) (fun r4 => ?_)
  exact ⟨3, 16, by omega, by omega, tg_lawOf (Nat.le_refl 3) (Nat.le_refl 16) rfl⟩
end
