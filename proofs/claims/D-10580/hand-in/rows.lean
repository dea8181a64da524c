section
/-! The picture: the text holds no character (l = 0, c = -1) or the one character c (l = 1). -/
/-- the part that the character c plays as the only one -/
def sx_rl (c : Int32) : Int32 := if c = 0 then 6 else if c = 5 then 6 else if c = 2 then 1 else if c = 3 then 3 else if c = 4 then 4 else 0
/-- mode, escape and innermost bracket behind the character c -/
def sx_md (c : Int32) : Int32 := if c = 4 then 1 else if c = 6 then 2 else 0
def sx_es (c : Int32) : Int32 := if c = 5 then 1 else 0
def sx_in (c : Int32) : Int32 := if c = 2 then 0 else -2
def sx_I (l c k : Int32) (a1 a2 a3 a4 a5 a6 a7 : Nat → Int32) : Prop :=
  (l = 1 ∨ (l = 0 ∧ c = -1)) ∧ (k = 0 ∨ (k = 1 ∧ l = 1 ∧ a2 0 = sx_rl c ∧ a3 0 = -2 ∧ (c = 2 → a4 0 = -2))) ∧ (l = 1 → a1 0 = c) ∧ a5 0 = 0 ∧ a6 0 = 0 ∧ a7 0 = -2
theorem sx_v5 : vp_in (0 : Int32) 5 := vp_in_iff.mpr (by decide)
theorem sx_v64 : vp_in (0 : Int32) 64 := vp_in_iff.mpr (by decide)
theorem sx_sh0 : (0 : Int32) >>> ((4 : Int32) &&& 31) = 0 := by decide
theorem sx_sh1 : (1 : Int32) >>> ((4 : Int32) &&& 31) = 0 := by decide
theorem sx_an0 : (0 : Int32) &&& (-16) = 0 := by decide
theorem sx_an1 : (1 : Int32) &&& (-16) = 0 := by decide
theorem sx_01 : (0 : Int32) + 1 = 1 := by decide
theorem sx_t0 {x : Int32} (h : ¬ x = 0) : x < 0 ∨ 0 < x := by
  have h' : x.toInt ≠ 0 := fun z => h (Int32.toInt_inj.mp (by rw [z]; rfl))
  have e0 : (0 : Int32).toInt = 0 := by decide
  rw [Int32.lt_iff_toInt_lt, Int32.lt_iff_toInt_lt]
  omega
theorem sx_t1 {x : Int32} (h : ¬ x = 0) (g : ¬ x = 1) : x < 0 ∨ 1 < x := by
  have h' : x.toInt ≠ 0 := fun z => h (Int32.toInt_inj.mp (by rw [z]; rfl))
  have g' : x.toInt ≠ 1 := fun z => g (Int32.toInt_inj.mp (by rw [z]; rfl))
  have e0 : (0 : Int32).toInt = 0 := by decide
  have e1 : (1 : Int32).toInt = 1 := by decide
  rw [Int32.lt_iff_toInt_lt, Int32.lt_iff_toInt_lt]
  omega
theorem sx_p0 {x : Int32} (h : ¬ x = 0) : x < 0 ∨ 1 ≤ x := by
  have h' : x.toInt ≠ 0 := fun z => h (Int32.toInt_inj.mp (by rw [z]; rfl))
  have e0 : (0 : Int32).toInt = 0 := by decide
  have e1 : (1 : Int32).toInt = 1 := by decide
  rw [Int32.lt_iff_toInt_lt, Int32.le_iff_toInt_le]
  omega
theorem sx_pe {x : Int32} (h : ¬ x < 0) : 0 ≤ x := by
  have e0 : (0 : Int32).toInt = 0 := by decide
  rw [Int32.lt_iff_toInt_lt] at h
  rw [Int32.le_iff_toInt_le]
  omega
section
variable {post : St2 → Prop} {l k m e i c : Int32} {a1 a2 a3 a4 a5 a6 a7 : Nat → Int32}
theorem sx_load (h5 : a5 0 = 0) (h6 : a6 0 = 0) (h7 : a7 0 = -2) (hp : post (l, k, 0, 0, -2, a1, a2, a3, a4, a5, a6, a7)) :
    wpX_load post (l, k, m, e, i, a1, a2, a3, a4, a5, a6, a7) 0 := by
  unfold wpX_load
  dsimp only
  rw [sb_cl0]
  exact ⟨sx_v5, nm_r h5 ⟨sx_v5, nm_r h6 ⟨by rfl, by rfl, sx_v5, nm_r h7 hp⟩⟩⟩
theorem sx_keep (hp : ∀ b5 b6 b7 : Nat → Int32, b5 0 = 0 → b6 0 = 0 → b7 0 = -2 → post (l, k, 0, 0, -2, a1, a2, a3, a4, b5, b6, b7)) :
    wpX_keep post (l, k, 0, 0, -2, a1, a2, a3, a4, a5, a6, a7) 0 := by
  unfold wpX_keep
  dsimp only
  rw [sb_cl0]
  exact ⟨sx_v5, nm_e ⟨sx_v5, nm_e ⟨sx_v5, nm_e (hp _ _ _ pk_us (pk_us.trans (by rfl)) pk_us)⟩⟩⟩
theorem sx_note (h1 : a1 0 = c) (hp : ∀ b2 b3 b4 : Nat → Int32, b2 0 = sx_rl c → b3 0 = -2 → (c = 2 → b4 0 = -2) → post (l, k, 0, 0, -2, a1, b2, b3, b4, a5, a6, a7)) :
    wpX_note post (l, k, 0, 0, -2, a1, a2, a3, a4, a5, a6, a7) 0 := by
  unfold wpX_note
  dsimp only
  rw [sb_cl0]
  refine ⟨sx_v64, nm_r h1 ⟨sx_v64, nm_e ⟨sx_v64, nm_e (br_t rfl (br_t rfl ?_))⟩⟩⟩
  refine br_c (fun g0 => ⟨sx_v64, nm_e (hp _ _ _ (pk_us.trans (by simp [sx_rl, g0])) pk_us (fun z => absurd (g0.symm.trans z) (by decide)))⟩) (fun g0 => ?_)
  refine br_c (fun g5 => ⟨sx_v64, nm_e (hp _ _ _ (pk_us.trans (by simp [sx_rl, g5])) pk_us (fun z => absurd (g5.symm.trans z) (by decide)))⟩) (fun g5 => ?_)
  refine br_c (fun g2 => ⟨sx_v64, nm_e ⟨sx_v64, nm_e (hp _ _ _ (pk_us.trans (by simp [sx_rl, g2])) pk_us (fun _ => pk_us))⟩⟩) (fun g2 => ?_)
  refine br_c (fun g3 => br_t rfl ?_) (fun g3 => ?_)
  · unfold wX_note_105
    rw [sb_cl0]
    exact ⟨sx_v64, nm_e (br_t rfl (hp _ _ _ (pk_us.trans (by simp [sx_rl, g3])) pk_us (fun z => absurd z g2)))⟩
  · refine br_c (fun g4 => ⟨sx_v64, nm_e (hp _ _ _ (pk_us.trans (by simp [sx_rl, g4])) pk_us (fun z => absurd z g2))⟩) (fun g4 => ?_)
    exact hp _ _ _ (pk_us.trans (by simp [sx_rl, g0, g5, g2, g3, g4])) pk_us (fun z => absurd z g2)
theorem sx_101 (hp : ∀ e', e' = sx_es c → post (l, k, m, e', i, a1, a2, a3, a4, a5, a6, a7)) : wX_step_101 post c l k m e i a1 a2 a3 a4 a5 a6 a7 := by
  unfold wX_step_101
  exact br_c (fun g => hp _ (by simp [sx_es, g])) (fun g => hp _ (by simp [sx_es, g]))
theorem sx_step (h1 : a1 0 = c) (hp : ∀ m' e' i', m' = sx_md c → e' = sx_es c → i' = sx_in c → post (l, k, m', e', i', a1, a2, a3, a4, a5, a6, a7)) :
    wpX_step post (l, k, 0, 0, -2, a1, a2, a3, a4, a5, a6, a7) 0 := by
  unfold wpX_step
  dsimp only
  rw [sb_cl0]
  refine ⟨sx_v64, nm_r h1 (br_t rfl (br_t rfl ?_))⟩
  refine br_c (fun g2 => sx_101 (fun e' he => hp _ _ _ (by simp [sx_md, g2]) he (by simp [sx_in, g2]))) (fun g2 => ?_)
  refine br_c (fun g3 => br_t rfl ?_) (fun g3 => ?_)
  · unfold wX_step_71
    exact sx_101 (fun e' he => hp _ _ _ (by simp [sx_md, g3]) he (by simp [sx_in, g2]))
  refine br_c (fun g4 => sx_101 (fun e' he => hp _ _ _ (by simp [sx_md, g4]) he (by simp [sx_in, g2]))) (fun g4 => ?_)
  refine br_c (fun g6 => sx_101 (fun e' he => hp _ _ _ (by simp [sx_md, g6]) he (by simp [sx_in, g2]))) (fun g6 => ?_)
  exact sx_101 (fun e' he => hp _ _ _ (by simp [sx_md, g4, g6]) he (by simp [sx_in, g2]))
theorem sx_read0 (hk : k = 0 ∨ k = 1) (hp : post (l, k, m, e, i, a1, a2, a3, a4, a5, a6, a7)) :
    wpX_readTo post (l, k, m, e, i, a1, a2, a3, a4, a5, a6, a7) 0 := by
  unfold wpX_readTo
  dsimp only
  refine br_f ?_ hp
  rcases hk with h | h
  · rw [h]; decide
  · rw [h]; decide
theorem sx_read1 (I : sx_I 1 c k a1 a2 a3 a4 a5 a6 a7)
    (hp : ∀ (m' e' i' : Int32) (b2 b3 b4 b5 b6 b7 : Nat → Int32), sx_I 1 c 1 a1 b2 b3 b4 b5 b6 b7 → post (1, 1, m', e', i', a1, b2, b3, b4, b5, b6, b7)) :
    wpX_readTo post (1, k, m, e, i, a1, a2, a3, a4, a5, a6, a7) 1 := by
  unfold wpX_readTo
  dsimp only
  obtain ⟨hl, hk, h1, h5, h6, h7⟩ := I
  rcases hk with hk | ⟨hk, hn⟩
  · subst hk
    refine br_t (by decide) ?_
    rw [sx_sh0]
    refine sx_load h5 h6 h7 ?_
    dsimp only
    refine nm_r sx_an0 ⟨0 + 1 + 1, ?_⟩
    refine br_f (by decide) (br_t (by decide) ?_)
    rw [sx_sh0]
    refine sx_keep (fun b5 b6 b7 g5 g6 g7 => ?_)
    dsimp only
    unfold wX_readTo_46
    refine sx_note (h1 rfl) (fun b2 b3 b4 g2 g3 g4 => ?_)
    dsimp only
    refine sx_step (h1 rfl) (fun m' e' i' _ _ _ => ?_)
    dsimp only
    refine nm_r sx_01 ?_
    refine br_t (by decide) (br_f (by decide) ?_)
    exact hp m' e' i' b2 b3 b4 b5 b6 b7 ⟨Or.inl rfl, Or.inr ⟨rfl, rfl, g2, g3, g4⟩, h1, g5, g6, g7⟩
  · subst hk
    exact br_f (by decide) (hp m e i a2 a3 a4 a5 a6 a7 ⟨hl, Or.inr ⟨rfl, hn⟩, h1, h5, h6, h7⟩)
theorem sx_at0 (I : sx_I l c k a1 a2 a3 a4 a5 a6 a7) (hp : post (l, k, 0, 0, -2, a1, a2, a3, a4, a5, a6, a7)) :
    wpX_stateAt post (l, k, m, e, i, a1, a2, a3, a4, a5, a6, a7) 0 := by
  unfold wpX_stateAt
  dsimp only
  obtain ⟨hl, hk, h1, h5, h6, h7⟩ := I
  refine sx_read0 (hk.elim Or.inl (fun z => Or.inr z.1)) ?_
  dsimp only
  rw [sx_sh0]
  refine sx_load h5 h6 h7 ?_
  dsimp only
  refine nm_r sx_an0 ⟨0 + 1, ?_⟩
  exact br_t (by decide) hp
theorem sx_at1 (I : sx_I 1 c k a1 a2 a3 a4 a5 a6 a7)
    (hp : ∀ (m' e' i' : Int32) (b2 b3 b4 b5 b6 b7 : Nat → Int32), m' = sx_md c → e' = sx_es c → i' = sx_in c → sx_I 1 c 1 a1 b2 b3 b4 b5 b6 b7 → post (1, 1, m', e', i', a1, b2, b3, b4, b5, b6, b7)) :
    wpX_stateAt post (1, k, m, e, i, a1, a2, a3, a4, a5, a6, a7) 1 := by
  unfold wpX_stateAt
  dsimp only
  refine sx_read1 I (fun m1 e1 i1 b2 b3 b4 b5 b6 b7 J => ?_)
  dsimp only
  rw [sx_sh1]
  refine sx_load J.2.2.2.1 J.2.2.2.2.1 J.2.2.2.2.2 ?_
  dsimp only
  refine nm_r sx_an1 ⟨0 + 1 + 1, ?_⟩
  refine br_f (by decide) ?_
  refine sx_step (J.2.2.1 rfl) (fun m' e' i' hm he hi => ?_)
  dsimp only
  refine nm_r sx_01 ?_
  exact br_t (by decide) (hp m' e' i' b2 b3 b4 b5 b6 b7 hm he hi J)
end
end
section
/-- is x a gap of the text (a position, for sx_pl; a kind, for sx_kd) -/
def sx_gp (l x : Int32) : Prop := x = 0 ∨ (x = 1 ∧ l = 1)
def sx_kd (x : Int32) : Prop := ¬ x < 0 ∧ ¬ 7 < x
theorem sx_lI {l c k : Int32} {a1 a2 a3 a4 a5 a6 a7 : Nat → Int32} (I : sx_I l c k a1 a2 a3 a4 a5 a6 a7) : l = 1 ∨ l = 0 := I.1.elim Or.inl (fun z => Or.inr z.1)
section
variable {l k m e i c : Int32} {a1 a2 a3 a4 a5 a6 a7 : Nat → Int32}
theorem sx_gapT {post : Int32 → Prop} {x : Int32} (hl : l = 1 ∨ l = 0) (g : sx_gp l x) (hp : post 1) :
    wpX_isGap post (l, k, m, e, i, a1, a2, a3, a4, a5, a6, a7) x := by
  unfold wpX_isGap
  dsimp only
  rcases g with g | ⟨g, g'⟩
  · subst g
    refine br_f (by decide) (br_f ?_ hp)
    rcases hl with h | h
    · rw [h]; decide
    · rw [h]; decide
  · subst g
    subst g'
    exact br_f (by decide) (br_f (by decide) hp)
theorem sx_gapF {post : Int32 → Prop} {x : Int32} (hl : l = 1 ∨ l = 0) (g : ¬ sx_gp l x) (hp : post 0) :
    wpX_isGap post (l, k, m, e, i, a1, a2, a3, a4, a5, a6, a7) x := by
  unfold wpX_isGap
  dsimp only
  have g0 : ¬ x = 0 := fun z => g (Or.inl z)
  rcases hl with h | h
  · subst h
    have g1 : ¬ x = 1 := fun z => g (Or.inr ⟨z, rfl⟩)
    rcases sx_t1 g0 g1 with z | z
    · exact br_t z hp
    · exact br_c (fun _ => hp) (fun _ => br_t z hp)
  · subst h
    rcases sx_t0 g0 with z | z
    · exact br_t z hp
    · exact br_c (fun _ => hp) (fun _ => br_t z hp)
theorem sx_placeT {post : Int32 → Prop} (hp : post 1) : wpX_isPlace post (1, k, m, e, i, a1, a2, a3, a4, a5, a6, a7) 0 := by
  unfold wpX_isPlace
  dsimp only
  exact br_f (by decide) (br_f (by decide) hp)
theorem sx_placeF {post : Int32 → Prop} {x : Int32} (hl : l = 1 ∨ l = 0) (g : ¬ (l = 1 ∧ x = 0)) (hp : post 0) :
    wpX_isPlace post (l, k, m, e, i, a1, a2, a3, a4, a5, a6, a7) x := by
  unfold wpX_isPlace
  dsimp only
  rcases hl with h | h
  · subst h
    rcases sx_p0 (fun z => g ⟨rfl, z⟩) with z | z
    · exact br_t z hp
    · exact br_c (fun _ => hp) (fun _ => br_t z hp)
  · subst h
    exact br_c (fun _ => hp) (fun z => br_t (sx_pe z) hp)
theorem sx_kindT {post : Int32 → Prop} {x : Int32} (g : sx_kd x) (hp : post 1) : wpX_isKind post () x := by
  unfold wpX_isKind
  exact br_f g.1 (br_f g.2 hp)
theorem sx_kindF {post : Int32 → Prop} {x : Int32} (g : ¬ sx_kd x) (hp : post 0) : wpX_isKind post () x := by
  unfold wpX_isKind
  exact br_c (fun _ => hp) (fun z => br_c (fun _ => hp) (fun z' => absurd ⟨z, z'⟩ g))
theorem sx_forget {post : St2 → Prop} (hp : post (l, 0, m, e, i, a1, a2, a3, a4, a5, a6, a7)) :
    wpX_forgetFrom post (l, 0, m, e, i, a1, a2, a3, a4, a5, a6, a7) 0 := by
  unfold wpX_forgetFrom
  dsimp only
  exact br_t (by decide) ⟨0 + 1, br_t (by decide) hp⟩
theorem sx_insert {post : Int32 → St2 → Prop} {x y : Int32} (I : sx_I 0 (-1) 0 a1 a2 a3 a4 a5 a6 a7)
    (h1 : ¬ x = 0 → post (-1) (0, 0, m, e, i, a1, a2, a3, a4, a5, a6, a7))
    (h2 : x = 0 → ¬ sx_kd y → post (-2) (0, 0, m, e, i, a1, a2, a3, a4, a5, a6, a7))
    (h3 : x = 0 → sx_kd y → ∀ b1 : Nat → Int32, sx_I 1 y 0 b1 a2 a3 a4 a5 a6 a7 → post 1 (1, 0, m, e, i, b1, a2, a3, a4, a5, a6, a7)) :
    wpX_insert post (0, 0, m, e, i, a1, a2, a3, a4, a5, a6, a7) x y := by
  unfold wpX_insert
  dsimp only
  by_cases hx : x = 0
  · subst hx
    refine sx_gapT (Or.inr rfl) (Or.inl rfl) (br_f (by decide) ?_)
    by_cases hy : sx_kd y
    · refine sx_kindT hy (br_f (by decide) (br_f (by decide) ⟨0 + 1, ?_⟩))
      refine br_t (by decide) ⟨sx_v64, ?_⟩
      rw [sb_cl0]
      refine nm_e (nm_r sx_01 ?_)
      refine sx_forget ?_
      exact h3 rfl hy _ ⟨Or.inl rfl, Or.inl rfl, fun _ => pk_us, I.2.2.2⟩
    · exact sx_kindF hy (br_t rfl (h2 rfl hy))
  · refine sx_gapF (Or.inr rfl) (fun z => z.elim hx (fun t => absurd t.2 (by decide))) (br_t rfl (h1 hx))
theorem sx_set {post : Int32 → St2 → Prop} {x y : Int32} (I : sx_I l c 0 a1 a2 a3 a4 a5 a6 a7)
    (h1 : ¬ (l = 1 ∧ x = 0) → post (-1) (l, 0, m, e, i, a1, a2, a3, a4, a5, a6, a7))
    (h2 : l = 1 → x = 0 → ¬ sx_kd y → post (-2) (l, 0, m, e, i, a1, a2, a3, a4, a5, a6, a7))
    (h3 : l = 1 → x = 0 → sx_kd y → ∀ b1 : Nat → Int32, sx_I l y 0 b1 a2 a3 a4 a5 a6 a7 → post c (l, 0, m, e, i, b1, a2, a3, a4, a5, a6, a7)) :
    wpX_set post (l, 0, m, e, i, a1, a2, a3, a4, a5, a6, a7) x y := by
  unfold wpX_set
  dsimp only
  by_cases hx : l = 1 ∧ x = 0
  · obtain ⟨hl, hx⟩ := hx
    subst hl
    subst hx
    refine sx_placeT (br_f (by decide) ?_)
    by_cases hy : sx_kd y
    · refine sx_kindT hy (br_f (by decide) ⟨sx_v64, ?_⟩)
      rw [sb_cl0]
      refine nm_r (I.2.2.1 rfl) ⟨sx_v64, nm_e ?_⟩
      refine sx_forget ?_
      exact h3 rfl rfl hy (upd a1 0 y) ⟨Or.inl rfl, Or.inl rfl, fun _ => pk_us, I.2.2.2⟩
    · exact sx_kindF hy (br_t rfl (h2 rfl rfl hy))
  · exact sx_placeF (sx_lI I) hx (br_t rfl (h1 hx))
/-- the answers of mode, escaped and depth, at any look x -/
theorem sx_mode {post : Int32 → St2 → Prop} {x : Int32} (I : sx_I l c k a1 a2 a3 a4 a5 a6 a7)
    (hp : ∀ (r k' m' e' i' : Int32) (b2 b3 b4 b5 b6 b7 : Nat → Int32), sx_I l c k' a1 b2 b3 b4 b5 b6 b7 → (¬ sx_gp l x → r = -1) → (x = 0 → r = 0) → (x = 1 → l = 1 → r = sx_md c) → post r (l, k', m', e', i', a1, b2, b3, b4, b5, b6, b7)) :
    wpX_mode post (l, k, m, e, i, a1, a2, a3, a4, a5, a6, a7) x := by
  unfold wpX_mode
  dsimp only
  by_cases g : sx_gp l x
  · refine sx_gapT (sx_lI I) g (br_f (by decide) ?_)
    rcases g with g | ⟨g, g'⟩
    · subst g
      refine sx_at0 I ?_
      exact hp _ _ _ _ _ _ _ _ _ _ _ I (fun z => (z (Or.inl rfl)).elim) (fun _ => rfl) (fun z => absurd z (by decide))
    · subst g
      subst g'
      refine sx_at1 I (fun m' e' i' b2 b3 b4 b5 b6 b7 hm he hi J => ?_)
      exact hp _ _ _ _ _ _ _ _ _ _ _ J (fun z => (z (Or.inr ⟨rfl, rfl⟩)).elim) (fun z => absurd z (by decide)) (fun _ _ => hm)
  · exact sx_gapF (sx_lI I) g (br_t rfl (hp _ _ _ _ _ _ _ _ _ _ _ I (fun _ => rfl) (fun z => (g (Or.inl z)).elim) (fun z z' => (g (Or.inr ⟨z, z'⟩)).elim)))
theorem sx_escaped {post : Int32 → St2 → Prop} {x : Int32} (I : sx_I l c k a1 a2 a3 a4 a5 a6 a7)
    (hp : ∀ (r k' m' e' i' : Int32) (b2 b3 b4 b5 b6 b7 : Nat → Int32), sx_I l c k' a1 b2 b3 b4 b5 b6 b7 → (¬ sx_gp l x → r = -1) → (x = 0 → r = 0) → (x = 1 → l = 1 → r = sx_es c) → post r (l, k', m', e', i', a1, b2, b3, b4, b5, b6, b7)) :
    wpX_escaped post (l, k, m, e, i, a1, a2, a3, a4, a5, a6, a7) x := by
  unfold wpX_escaped
  dsimp only
  by_cases g : sx_gp l x
  · refine sx_gapT (sx_lI I) g (br_f (by decide) ?_)
    rcases g with g | ⟨g, g'⟩
    · subst g
      refine sx_at0 I ?_
      exact br_t rfl (hp _ _ _ _ _ _ _ _ _ _ _ I (fun z => (z (Or.inl rfl)).elim) (fun _ => rfl) (fun z => absurd z (by decide)))
    · subst g
      subst g'
      refine sx_at1 I (fun m' e' i' b2 b3 b4 b5 b6 b7 hm he hi J => ?_)
      refine br_c (fun z => ?_) (fun z => ?_)
      · exact hp _ _ _ _ _ _ _ _ _ _ _ J (fun z => (z (Or.inr ⟨rfl, rfl⟩)).elim) (fun z => absurd z (by decide)) (fun _ _ => z.symm.trans he)
      · refine hp _ _ _ _ _ _ _ _ _ _ _ J (fun z => (z (Or.inr ⟨rfl, rfl⟩)).elim) (fun z => absurd z (by decide)) (fun _ _ => ?_)
        by_cases g5 : c = 5
        · simp [sx_es, g5]
        · exact absurd (he.trans (by simp [sx_es, g5])) z
  · exact sx_gapF (sx_lI I) g (br_t rfl (hp _ _ _ _ _ _ _ _ _ _ _ I (fun _ => rfl) (fun z => (g (Or.inl z)).elim) (fun z z' => (g (Or.inr ⟨z, z'⟩)).elim)))
theorem sx_dep0 {post : Int32 → Prop} (hp : post 0) : wpX_depthOf post (l, k, m, e, i, a1, a2, a3, a4, a5, a6, a7) (-2) := by
  unfold wpX_depthOf
  dsimp only
  exact ⟨0 + 1, br_f (by decide) (br_t rfl hp)⟩
theorem sx_dep1 {post : Int32 → Prop} (h4 : a4 0 = -2) (hp : post 1) : wpX_depthOf post (l, k, m, e, i, a1, a2, a3, a4, a5, a6, a7) 0 := by
  unfold wpX_depthOf
  dsimp only
  refine ⟨0 + 1 + 1, br_f (by decide) (br_f (by decide) (nm_r sx_01 ⟨sx_v64, ?_⟩))⟩
  rw [sb_cl0]
  exact nm_r h4 (nm_r sx_01 (br_f (by decide) (br_t rfl hp)))
theorem sx_depth {post : Int32 → St2 → Prop} {x : Int32} (I : sx_I l c k a1 a2 a3 a4 a5 a6 a7)
    (hp : ∀ (r k' m' e' i' : Int32) (b2 b3 b4 b5 b6 b7 : Nat → Int32), sx_I l c k' a1 b2 b3 b4 b5 b6 b7 → (¬ sx_gp l x → r = -1) → (x = 0 → r = 0) → (x = 1 → l = 1 → c = 2 → r = 1) → (x = 1 → l = 1 → ¬ c = 2 → r = 0) → post r (l, k', m', e', i', a1, b2, b3, b4, b5, b6, b7)) :
    wpX_depth post (l, k, m, e, i, a1, a2, a3, a4, a5, a6, a7) x := by
  unfold wpX_depth
  dsimp only
  by_cases g : sx_gp l x
  · refine sx_gapT (sx_lI I) g (br_f (by decide) ?_)
    rcases g with g | ⟨g, g'⟩
    · subst g
      refine sx_at0 I ?_
      dsimp only
      refine sx_dep0 ?_
      exact hp _ _ _ _ _ _ _ _ _ _ _ I (fun z => (z (Or.inl rfl)).elim) (fun _ => rfl) (fun z => absurd z (by decide)) (fun z => absurd z (by decide))
    · subst g
      subst g'
      refine sx_at1 I (fun m' e' i' b2 b3 b4 b5 b6 b7 hm he hi J => ?_)
      dsimp only
      by_cases g2 : c = 2
      · have hi' : i' = 0 := hi.trans (by simp [sx_in, g2])
        subst hi'
        have h4 : b4 0 = -2 := J.2.1.elim (fun z => absurd z (by decide)) (fun z => z.2.2.2.2 g2)
        refine sx_dep1 h4 ?_
        exact hp _ _ _ _ _ _ _ _ _ _ _ J (fun z => (z (Or.inr ⟨rfl, rfl⟩)).elim) (fun z => absurd z (by decide)) (fun _ _ _ => rfl) (fun _ _ z => absurd g2 z)
      · have hi' : i' = -2 := hi.trans (by simp [sx_in, g2])
        subst hi'
        refine sx_dep0 ?_
        exact hp _ _ _ _ _ _ _ _ _ _ _ J (fun z => (z (Or.inr ⟨rfl, rfl⟩)).elim) (fun z => absurd z (by decide)) (fun _ _ z => absurd z g2) (fun _ _ _ => rfl)
  · exact sx_gapF (sx_lI I) g (br_t rfl (hp _ _ _ _ _ _ _ _ _ _ _ I (fun _ => rfl) (fun z => (g (Or.inl z)).elim) (fun z z' => (g (Or.inr ⟨z, z'⟩)).elim) (fun z z' => (g (Or.inr ⟨z, z'⟩)).elim)))
theorem sx_133 {post : Int32 → St2 → Prop} (I : sx_I 1 c k a1 a2 a3 a4 a5 a6 a7) (hc : c = 0 ∨ c = 5)
    (hp : ∀ (r k' m' e' i' : Int32) (b2 b3 b4 b5 b6 b7 : Nat → Int32), (c = 0 → ¬ r < 0) → (¬ c = 0 → r < 0) → post r (1, k', m', e', i', a1, b2, b3, b4, b5, b6, b7)) :
    wX_unitEnd_133 post 0 1 k m e i a1 a2 a3 a4 a5 a6 a7 := by
  unfold wX_unitEnd_133
  rw [sx_01]
  refine sx_at1 I (fun m' e' i' b2 b3 b4 b5 b6 b7 hm he hi J => ?_)
  rcases hc with h | h
  · subst h
    exact br_t (he.trans (by rfl)) (hp _ _ _ _ _ _ _ _ _ _ _ (fun _ => by decide) (fun z => absurd rfl z))
  · subst h
    exact br_f (fun z => absurd (z.symm.trans he) (by decide)) (hp _ _ _ _ _ _ _ _ _ _ _ (fun z => absurd z (by decide)) (fun _ => by decide))
theorem sx_unitEnd {post : Int32 → St2 → Prop} (I : sx_I 1 c 1 a1 a2 a3 a4 a5 a6 a7)
    (hp : ∀ (r k' m' e' i' : Int32) (b2 b3 b4 b5 b6 b7 : Nat → Int32), (c = 0 → ¬ r < 0) → (¬ c = 0 → r < 0) → post r (1, k', m', e', i', a1, b2, b3, b4, b5, b6, b7)) :
    wpX_unitEnd post (1, 1, m, e, i, a1, a2, a3, a4, a5, a6, a7) 0 := by
  unfold wpX_unitEnd
  dsimp only
  rw [sb_cl0]
  obtain ⟨h2, h3, h4⟩ : a2 0 = sx_rl c ∧ a3 0 = -2 ∧ (c = 2 → a4 0 = -2) := I.2.1.elim (fun z => absurd z (by decide)) (fun z => z.2.2)
  rw [h2, h3]
  have no : ¬ c = 0 → post (-1) (1, 1, m, e, i, a1, a2, a3, a4, a5, a6, a7) := fun z => hp _ _ _ _ _ _ _ _ _ _ _ (fun z' => absurd z' z) (fun _ => by decide)
  refine ⟨sx_v64, ?_⟩
  by_cases c2 : c = 2
  · exact br_t (by simp [sx_rl, c2]) ⟨sx_v64, br_f (by decide) (no (fun z => absurd (z.symm.trans c2) (by decide)))⟩
  by_cases c4 : c = 4
  · refine br_f (by simp [sx_rl, c4]) ⟨sx_v64, br_t (by simp [sx_rl, c4]) (nm_r sx_01 ⟨0 + 1, br_t (by decide) (no (fun z => absurd (z.symm.trans c4) (by decide)))⟩)⟩
  by_cases c05 : c = 0 ∨ c = 5
  · have e6 : sx_rl c = 6 := by
      rcases c05 with z | z
      · simp [sx_rl, z]
      · simp [sx_rl, z]
    rw [e6]
    refine br_f (by decide) ⟨sx_v64, br_f (by decide) ⟨sx_v64, br_t rfl (br_t (by decide) ⟨0 + 1, ?_⟩)⟩⟩
    exact br_t (by decide) (sx_133 I c05 hp)
  · have c0 : ¬ c = 0 := fun z => c05 (Or.inl z)
    have c5 : ¬ c = 5 := fun z => c05 (Or.inr z)
    by_cases c3 : c = 3
    · have e3 : sx_rl c = 3 := by simp [sx_rl, c3]
      rw [e3]
      exact br_f (by decide) ⟨sx_v64, br_f (by decide) ⟨sx_v64, br_f (by decide) (no c0)⟩⟩
    · have e0 : sx_rl c = 0 := by simp [sx_rl, c0, c5, c2, c3, c4]
      rw [e0]
      exact br_f (by decide) ⟨sx_v64, br_f (by decide) ⟨sx_v64, br_f (by decide) (no c0)⟩⟩
theorem sx_units {post : Int32 → St2 → Prop} (I : sx_I l c k a1 a2 a3 a4 a5 a6 a7)
    (hp : ∀ (r k' m' e' i' : Int32) (b2 b3 b4 b5 b6 b7 : Nat → Int32), (c = 0 → r = 1) → (¬ c = 0 → r = 0) → post r (l, k', m', e', i', a1, b2, b3, b4, b5, b6, b7)) :
    wpX_units post (l, k, m, e, i, a1, a2, a3, a4, a5, a6, a7) := by
  unfold wpX_units
  dsimp only
  rcases I.1 with hl | ⟨hl, hc⟩
  · subst hl
    refine sx_read1 I (fun m1 e1 i1 b2 b3 b4 b5 b6 b7 J => ?_)
    dsimp only
    refine ⟨0 + 1 + 1, br_f (by decide) ?_⟩
    refine sx_unitEnd J (fun r k' m' e' i' d2 d3 d4 d5 d6 d7 hr hr' => ?_)
    refine br_c (fun z => nm_r sx_01 ?_) (fun z => nm_r sx_01 (nm_r sx_01 ?_))
    · exact br_t (by decide) (hp _ _ _ _ _ _ _ _ _ _ _ (fun z' => absurd z (hr z')) (fun _ => rfl))
    · exact br_t (by decide) (hp _ _ _ _ _ _ _ _ _ _ _ (fun _ => rfl) (fun z' => absurd (hr' z') z))
  · subst hl
    have hk : k = 0 ∨ k = 1 := I.2.1.elim Or.inl (fun z => Or.inr z.1)
    refine sx_read0 hk ?_
    dsimp only
    refine ⟨0 + 1, br_t (by decide) (hp _ _ _ _ _ _ _ _ _ _ _ (fun z => absurd (z.symm.trans hc) (by decide)) (fun _ => rfl))⟩
end
end
section
section
variable {post : Int32 → St0 → Prop} {mc ms kc ks : Nat} {l k m e i c x4 x11 z0 z1 : Int32} {a1 a2 a3 a4 a5 a6 a7 : Nat → Int32}
theorem sx_314 (H : post 1 ()) (I : sx_I l c k a1 a2 a3 a4 a5 a6 a7) (h : z1 = z0) :
    wL_lawOf_314 post mc ms c z0 z1 kc ks l k m e i a1 a2 a3 a4 a5 a6 a7 := by
  unfold wL_lawOf_314
  refine br_t h (sx_units I (fun r k' m' e' i' b2 b3 b4 b5 b6 b7 hr hr' => ?_))
  dsimp only
  refine br_c (fun z => ?_) (fun z => ?_)
  · unfold wL_lawOf_334
    exact br_t (hr z) H
  · unfold wL_lawOf_334
    exact br_t (hr' z) H
theorem sx_276 (H : post 1 ()) (I : sx_I l c k a1 a2 a3 a4 a5 a6 a7) (hg : x11 = 0 ↔ ¬ sx_gp l x4) (h : z1 = z0) :
    wL_lawOf_276 post mc ms x4 c x11 z0 z1 kc ks l k m e i a1 a2 a3 a4 a5 a6 a7 := by
  unfold wL_lawOf_276
  refine br_t h (sx_depth I (fun r k' m' e' i' b2 b3 b4 b5 b6 b7 J q0 q1 q2 q3 => ?_))
  dsimp only
  refine br_c (fun z => sx_314 H J (q0 (hg.mp z))) (fun z => ?_)
  have g : sx_gp l x4 := Classical.byContradiction (fun t => z (hg.mpr t))
  refine br_c (fun z1 => ?_) (fun z1 => ?_)
  · have hl : l = 1 := g.elim (fun t => absurd (t.symm.trans z1) (by decide)) (fun t => t.2)
    refine br_c (fun z2 => sx_314 H J (q2 z1 hl z2)) (fun z2 => ?_)
    unfold wL_lawOf_309
    exact sx_314 H J (q3 z1 hl z2)
  · have x0 : x4 = 0 := g.elim id (fun t => absurd t.1 z1)
    unfold wL_lawOf_309
    exact sx_314 H J (q1 x0)
theorem sx_238 (H : post 1 ()) (I : sx_I l c k a1 a2 a3 a4 a5 a6 a7) (hg : x11 = 0 ↔ ¬ sx_gp l x4) (h : z1 = z0) :
    wL_lawOf_238 post mc ms x4 c x11 z0 z1 kc ks l k m e i a1 a2 a3 a4 a5 a6 a7 := by
  unfold wL_lawOf_238
  refine br_t h (sx_escaped I (fun r k' m' e' i' b2 b3 b4 b5 b6 b7 J q0 q1 q2 => ?_))
  dsimp only
  refine br_c (fun z => sx_276 H J hg (q0 (hg.mp z))) (fun z => ?_)
  have g : sx_gp l x4 := Classical.byContradiction (fun t => z (hg.mpr t))
  refine br_c (fun z1 => ?_) (fun z1 => ?_)
  · have hl : l = 1 := g.elim (fun t => absurd (t.symm.trans z1) (by decide)) (fun t => t.2)
    refine br_c (fun z2 => sx_276 H J hg ((q2 z1 hl).trans (by simp [sx_es, z2]))) (fun z2 => ?_)
    unfold wL_lawOf_271
    exact sx_276 H J hg ((q2 z1 hl).trans (by simp [sx_es, z2]))
  · have x0 : x4 = 0 := g.elim id (fun t => absurd t.1 z1)
    unfold wL_lawOf_271
    exact sx_276 H J hg (q1 x0)
theorem sx_218 (H : post 1 ()) (I : sx_I l c k a1 a2 a3 a4 a5 a6 a7) (hg : x11 = 0 ↔ ¬ sx_gp l x4) (h0 : x4 = 0 → z0 = 0) (h1 : ¬ x4 = 0 → z0 = sx_md c) :
    wL_lawOf_218 post mc ms x4 c x11 z0 kc ks l k m e i a1 a2 a3 a4 a5 a6 a7 := by
  unfold wL_lawOf_218
  refine sx_mode I (fun r k' m' e' i' b2 b3 b4 b5 b6 b7 J q0 q1 q2 => ?_)
  dsimp only
  refine br_c (fun z => sx_238 H J hg (q0 (hg.mp z))) (fun z => ?_)
  have g : sx_gp l x4 := Classical.byContradiction (fun t => z (hg.mpr t))
  refine sx_238 H J hg ?_
  rcases g with g | ⟨g, g'⟩
  · exact (q1 g).trans (h0 g).symm
  · exact (q2 g g').trans (h1 (fun t => absurd (t.symm.trans g) (by decide))).symm
theorem sx_185 (H : post 1 ()) (I : sx_I l c k a1 a2 a3 a4 a5 a6 a7) (hg : x11 = 0 ↔ ¬ sx_gp l x4) :
    wL_lawOf_185 post mc ms x4 c x11 kc ks l k m e i a1 a2 a3 a4 a5 a6 a7 := by
  unfold wL_lawOf_185
  refine br_c (fun z => sx_218 H I hg (fun _ => rfl) (fun t => absurd z t)) (fun z => ?_)
  refine br_c (fun z4 => sx_218 H I hg (fun t => absurd t z) (fun _ => by simp [sx_md, z4])) (fun z4 => ?_)
  refine br_c (fun z6 => sx_218 H I hg (fun t => absurd t z) (fun _ => by simp [sx_md, z6])) (fun z6 => ?_)
  exact sx_218 H I hg (fun t => absurd t z) (fun _ => by simp [sx_md, z4, z6])
theorem sx_162 (H : post 1 ()) (I : sx_I l c k a1 a2 a3 a4 a5 a6 a7) :
    wL_lawOf_162 post mc ms x4 l c kc ks l k m e i a1 a2 a3 a4 a5 a6 a7 := by
  unfold wL_lawOf_162 wL_lawOf_180 wL_lawOf_184
  have yes : sx_gp l x4 → ((1 : Int32) = 0 ↔ ¬ sx_gp l x4) := fun g => ⟨fun t => absurd t (by decide), fun t => absurd g t⟩
  have no : ¬ sx_gp l x4 → ((0 : Int32) = 0 ↔ ¬ sx_gp l x4) := fun g => ⟨fun _ => g, fun _ => rfl⟩
  refine br_c (fun z => sx_185 H I (yes (Or.inl z))) (fun z => ?_)
  refine br_c (fun z1 => ?_) (fun z1 => sx_185 H I (no (fun t => t.elim z (fun t' => z1 t'.1))))
  refine br_c (fun zl => ?_) (fun zl => ?_)
  · exact sx_185 H I (no (fun t => t.elim z (fun t' => absurd (zl.symm.trans t'.2) (by decide))))
  · exact sx_185 H I (yes (Or.inr ⟨z1, (sx_lI I).elim id (fun t => absurd t zl)⟩))
end
section
variable {post : Int32 → St0 → Prop} {mc ms kc ks : Nat} {l k m e i c x0 x1 x2 x3 x4 x6 x8 x9 z0 z1 : Int32} {a1 a2 a3 a4 a5 a6 a7 : Nat → Int32}
/-- behind 'set': c is what stands there, x1 what was put there first -/
theorem sx_133L (H : post 1 ()) (I : sx_I l c k a1 a2 a3 a4 a5 a6 a7) (h : z1 = z0) (hc : l = 1 → ¬ (¬ x8 = 0 ∧ ¬ x9 = 0) → c = x1) (hc' : l = 1 → ¬ x8 = 0 → ¬ x9 = 0 → c = x3) :
    wL_lawOf_133 post mc ms x1 x3 x4 l x8 x9 z0 z1 kc ks l k m e i a1 a2 a3 a4 a5 a6 a7 := by
  unfold wL_lawOf_133 wL_lawOf_157
  refine br_t h ?_
  refine br_c (fun z => ?_) (fun z => ?_)
  · have hm : c = -1 := I.1.elim (fun t => absurd (z.symm.trans t) (by decide)) (fun t => t.2)
    subst hm
    exact sx_162 H I
  · have hl : l = 1 := (sx_lI I).elim id (fun t => absurd t z)
    refine br_c (fun z8 => ?_) (fun z8 => ?_)
    · have e := hc hl (fun t => t.1 z8)
      subst e
      exact sx_162 H I
    · refine br_c (fun z9 => ?_) (fun z9 => ?_)
      · have e := hc hl (fun t => t.2 z9)
        subst e
        exact sx_162 H I
      · have e := hc' hl z8 z9
        subst e
        exact sx_162 H I
theorem sx_104 (H : post 1 ()) (I : sx_I l c 0 a1 a2 a3 a4 a5 a6 a7) (hc : l = 1 → c = x1) (h8 : x8 = 0 ↔ ¬ (l = 1 ∧ x2 = 0)) (h0 : z0 = 0 ↔ ¬ sx_kd x3) :
    wL_lawOf_104 post mc ms x1 x2 x3 x4 l x8 z0 kc ks l 0 m e i a1 a2 a3 a4 a5 a6 a7 := by
  unfold wL_lawOf_104
  refine sx_set I (fun hn => ?_) (fun hl hx hy => ?_) (fun hl hx hy b1 J => ?_)
  · dsimp only
    have g8 := h8.mpr hn
    exact br_t g8 (sx_133L H I rfl (fun t _ => hc t) (fun _ t _ => absurd g8 t))
  · dsimp only
    have g8 : ¬ x8 = 0 := fun t => h8.mp t ⟨hl, hx⟩
    have g0 := h0.mpr hy
    exact br_f g8 (br_t g0 (sx_133L H I rfl (fun t _ => hc t) (fun _ _ t => absurd g0 t)))
  · dsimp only
    have g8 : ¬ x8 = 0 := fun t => h8.mp t ⟨hl, hx⟩
    have g0 : ¬ z0 = 0 := fun t => h0.mp t hy
    exact br_f g8 (br_f g0 (sx_133L H J (hc hl) (fun _ t => absurd ⟨g8, g0⟩ t) (fun _ _ _ => rfl)))
theorem sx_87 (H : post 1 ()) (I : sx_I l c 0 a1 a2 a3 a4 a5 a6 a7) (hc : l = 1 → c = x1) (h8 : x8 = 0 ↔ ¬ (l = 1 ∧ x2 = 0)) :
    wL_lawOf_87 post mc ms x1 x2 x3 x4 l x8 kc ks l 0 m e i a1 a2 a3 a4 a5 a6 a7 := by
  unfold wL_lawOf_87 wL_lawOf_103
  refine br_c (fun z => sx_104 H I hc h8 ⟨fun _ t => t.1 z, fun _ => rfl⟩) (fun z => ?_)
  refine br_c (fun z7 => sx_104 H I hc h8 ⟨fun _ t => t.2 z7, fun _ => rfl⟩) (fun z7 => ?_)
  exact sx_104 H I hc h8 ⟨fun t => absurd t (by decide), fun t => absurd ⟨z, z7⟩ t⟩
theorem sx_68 (H : post 1 ()) (I : sx_I l c 0 a1 a2 a3 a4 a5 a6 a7) (hc : l = 1 → c = x1) (h : z1 = z0) :
    wL_lawOf_68 post mc ms x1 x2 x3 x4 l z0 z1 kc ks l 0 m e i a1 a2 a3 a4 a5 a6 a7 := by
  unfold wL_lawOf_68 wL_lawOf_86
  refine br_t h ?_
  refine br_c (fun z => sx_87 H I hc ⟨fun _ t => absurd (z.symm.trans t.1) (by decide), fun _ => rfl⟩) (fun z => ?_)
  refine br_c (fun z2 => sx_87 H I hc ⟨fun t => absurd t (by decide), fun t => absurd ⟨(sx_lI I).elim id (fun t' => absurd t' z), z2⟩ t⟩) (fun z2 => ?_)
  exact sx_87 H I hc ⟨fun _ t => z2 t.2, fun _ => rfl⟩
theorem sx_40 (H : post 1 ()) (I : sx_I 0 (-1) 0 a1 a2 a3 a4 a5 a6 a7) (h6 : x6 = 0 ↔ ¬ sx_kd x1) (h0 : z0 = 0 ∨ z0 = 1) (hz : z0 = 1 ↔ (x0 = 0 ∧ sx_kd x1)) :
    wL_lawOf_40 post mc ms x0 x1 x2 x3 x4 x6 z0 kc ks 0 0 m e i a1 a2 a3 a4 a5 a6 a7 := by
  unfold wL_lawOf_40
  refine sx_insert I (fun hn => ?_) (fun hx hy => ?_) (fun hx hy b1 J => ?_)
  · dsimp only
    have e0 : z0 = 0 := h0.elim id (fun t => absurd (hz.mp t).1 hn)
    subst e0
    exact br_f hn (sx_68 H I (fun t => absurd t (by decide)) rfl)
  · dsimp only
    have e0 : z0 = 0 := h0.elim id (fun t => absurd (hz.mp t).2 hy)
    subst e0
    exact br_t hx (br_t (h6.mpr hy) (sx_68 H I (fun t => absurd t (by decide)) rfl))
  · dsimp only
    have e0 : z0 = 1 := hz.mpr ⟨hx, hy⟩
    subst e0
    exact br_t hx (br_f (fun t => h6.mp t hy) (sx_68 H J (fun _ => rfl) rfl))
theorem sx_24 (H : post 1 ()) (I : sx_I 0 (-1) 0 a1 a2 a3 a4 a5 a6 a7) (h6 : x6 = 0 ↔ ¬ sx_kd x1) :
    wL_lawOf_24 post mc ms x0 x1 x2 x3 x4 x6 kc ks 0 0 m e i a1 a2 a3 a4 a5 a6 a7 := by
  unfold wL_lawOf_24 wL_lawOf_39
  refine br_c (fun z => ?_) (fun z => ?_)
  · refine br_c (fun z6 => ?_) (fun z6 => ?_)
    · exact sx_40 H I h6 (Or.inl rfl) ⟨fun t => absurd t (by decide), fun t => absurd t.2 (h6.mp z6)⟩
    · exact sx_40 H I h6 (Or.inr rfl) ⟨fun _ => ⟨z, Classical.byContradiction (fun t => z6 (h6.mpr t))⟩, fun _ => rfl⟩
  · exact sx_40 H I h6 (Or.inl rfl) ⟨fun t => absurd t (by decide), fun t => absurd t.1 z⟩
end
theorem sx_lawOf {post : Int32 → St0 → Prop} (H : post 1 ()) (p0 p1 p2 p3 p4 : Int32) : wpL_lawOf post 20 1000 () p0 p1 p2 p3 p4 := by
  unfold wpL_lawOf
  refine ⟨by decide, by decide, 10, 500, by decide, by decide, ?_⟩
  unfold wpX_init
  dsimp only
  refine ⟨by decide, by decide, by decide, by decide, by decide, by decide, by decide, by decide, by decide, by decide, by decide, by decide, by decide, by decide, nm_e ?_⟩
  have I : sx_I 0 (-1) 0 (fun _ => 0) (fun _ => 0) (fun _ => 0) (fun _ => 0) (fun _ => 0) (fun _ => 0) (upd (fun _ => 0) 0 (-2)) :=
    ⟨Or.inr ⟨rfl, rfl⟩, Or.inl rfl, fun t => absurd t (by decide), rfl, rfl, pk_us⟩
  unfold wL_lawOf_23
  refine br_c (fun z => sx_24 H I ⟨fun _ t => t.1 z, fun _ => rfl⟩) (fun z => ?_)
  refine br_c (fun z7 => sx_24 H I ⟨fun _ t => t.2 z7, fun _ => rfl⟩) (fun z7 => ?_)
  exact sx_24 H I ⟨fun t => absurd t (by decide), fun t => absurd ⟨z, z7⟩ t⟩
theorem sx_cell {post : Int32 → Prop} {L : Nat} {xs : Nat → Int32} {p : Int32} (n : Nat) (hp : p = nI n) (hn : n < 5) (hL : L ≤ 5) (h : ∀ r, post r) : wpL_cellAt post L xs () p := by
  unfold wpL_cellAt
  subst hp
  refine br_c (fun _ => h _) (fun z => ⟨?_, h _⟩)
  refine vp_in_nI ?_ (by omega)
  rcases Nat.lt_or_ge n L with t | t
  · exact t
  · exact absurd (nI_le t (by omega)) z
theorem i_vc (xs : Nat → Int32) (L : Nat) (hL : L ≤ 5) : wpL_law (fun r => r = 1) L xs := by
  unfold wpL_law
  refine sx_cell 0 rfl (by decide) hL (fun r1 => ?_)
  refine sx_cell 1 rfl (by decide) hL (fun r2 => ?_)
  refine sx_cell 2 rfl (by decide) hL (fun r3 => ?_)
  refine sx_cell 3 rfl (by decide) hL (fun r4 => ?_)
  refine sx_cell 4 rfl (by decide) hL (fun r5 => ?_)
  exact ⟨20, 1000, by decide, by decide, sx_lawOf rfl r1 r2 r3 r4 r5⟩
end
