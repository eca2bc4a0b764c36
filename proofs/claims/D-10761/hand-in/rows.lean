section
/-! the pure pictures, and the facts over the 49 points -/
def gb_A : Int64 := 562949953421311
def gb_NF : Int64 := 558517276622718
def gb_NL : Int64 := 279258638311359
/-- the set of the one point k -/
def gb_b (k : Nat) : Int64 := (1 : Int64) <<< ((nI k).toInt64 &&& 63)
/-- the constructor's loop: k rounds to go, at point i -/
def gb_f : Nat → Nat → Int64 → Int64 → Int64 → Int64 × Int64 × Int64
  | 0, _, x1, x3, x5 => (x1, x1 &&& (x3 ^^^ (-1)), x1 &&& (x5 ^^^ (-1)))
  | k + 1, i, x1, x3, x5 => gb_f k (i + 1) (x1 ||| gb_b i) (if (nI i - nI i / 7 * 7) = 0 then x3 ||| gb_b i else x3) (if (nI i - nI i / 7 * 7) = 6 then x5 ||| gb_b i else x5)
theorem gb_k : gb_f 49 0 0 0 0 = (gb_A, gb_NF, gb_NL) := by decide +kernel
/-- around -/
def gb_ar (x : Int64) : Int64 := ((((((x.toUInt64 >>> ((7 : Int32).toInt64.toUInt64 &&& Int64.toUInt64 63)).toInt64) ||| (x <<< ((7 : Int32).toInt64 &&& 63))) ||| (((x &&& gb_NF).toUInt64 >>> ((1 : Int32).toInt64.toUInt64 &&& Int64.toUInt64 63)).toInt64)) ||| ((x &&& gb_NL) <<< ((1 : Int32).toInt64 &&& 63))) &&& gb_A)
/-- the point j is in the set x -/
abbrev gb_in (x : Int64) (j : Nat) : Prop := (((x.toUInt64 >>> ((nI j).toInt64.toUInt64 &&& Int64.toUInt64 63)).toInt64) &&& 1) = 1
/-- sizeOf's loop: k rounds to go, at point i, n counted -/
def gb_sz (x : Int64) : Nat → Nat → Int32 → Int32
  | 0, _, n => n
  | k + 1, i, n => gb_sz x k (i + 1) (if gb_in x i then n + 1 else n)
/-- the law's count of neighbours, column x, row y -/
def gb_nb (x y : Int32) : Int32 := (((if x ≤ 0 then 0 else 1) + (if 6 ≤ x then 0 else 1)) + (if y ≤ 0 then 0 else 1)) + (if 6 ≤ y then 0 else 1)
/-- no stone at point j -/
abbrev gb_no (b w : Int64) (j : Nat) : Prop := ¬ gb_in b j ∧ ¬ gb_in w j ∧ ((b ||| w) &&& gb_b j) = 0
theorem gb_no0 : ∀ j, j < 49 → gb_no 0 0 j := by decide +kernel
theorem gb_no1a : ∀ k, k < 49 → ∀ j, j < 49 → k = j ∨ gb_no (gb_b k) 0 j := by decide +kernel
theorem gb_no1b : ∀ k, k < 49 → ∀ j, j < 49 → k = j ∨ gb_no 0 (gb_b k) j := by decide +kernel
theorem gb_no1 (k : Nat) (hk : k < 49) (j : Nat) (hj : j < 49) (h : ¬ k = j) : gb_no (gb_b k) 0 j ∧ gb_no 0 (gb_b k) j := ⟨(gb_no1a k hk j hj).resolve_left h, (gb_no1b k hk j hj).resolve_left h⟩
/-- the stone at k, seen at k -/
theorem gb_st : ∀ k, k < 49 → gb_in (gb_b k) k ∧ ¬ gb_in 0 k ∧ ¬ (gb_b k &&& gb_b k) = 0 ∧ (0 &&& gb_b k) = 0 ∧ ¬ ((gb_b k ||| 0) &&& gb_b k) = 0 ∧ ¬ ((0 ||| gb_b k) &&& gb_b k) = 0 := by decide +kernel
/-- a lone stone: it doesn't grow, it has a liberty, as many as the law counts -/
theorem gb_lone : ∀ k, k < 49 → (gb_b k &&& gb_b k) = gb_b k ∧ (gb_b k ||| (gb_ar (gb_b k) &&& gb_b k)) = gb_b k ∧ ¬ (gb_ar (gb_b k) &&& (gb_A &&& (gb_b k ^^^ (-1)))) = 0 := by decide +kernel
theorem gb_libs : ∀ k, k < 49 → gb_sz (gb_ar (gb_b k) &&& (gb_A &&& (gb_b k ^^^ (-1)))) 49 0 0 = gb_nb (nI k - nI k / 7 * 7) (nI k / 7) := by decide +kernel
theorem gb_sz0 : gb_sz 0 49 0 0 = 0 := by decide +kernel
end
section
/-! the class's methods, each once -/
section
variable {f1 f2 f3 f4 f5 : Int64} {f6 f7 f8 : Int32} {f9 f10 : Int64} {a1 a2 : Nat → Int64} {a3 : Nat → Int32}
/-! the constructor -/
theorem gb_i38 {post : St2 → Prop} {mc ms kc ks : Nat} (k : Nat) : ∀ (i : Nat) (x1 x3 x5 : Int64), i + k = 49 →
    post ((gb_f k i x1 x3 x5).1, (gb_f k i x1 x3 x5).2.1, (gb_f k i x1 x3 x5).2.2, f4, f5, f6, f7, f8, f9, f10, a1, a2, a3) →
    wX_init_38 post mc ms kc ks f1 f2 f3 f4 f5 f6 f7 f8 f9 f10 a1 a2 a3 (k + 1) x1 x3 x5 (nI i) := by
  induction k with
  | zero =>
    intro i x1 x3 x5 e h
    exact pk_le 49 i (fun _ => nm_e (nm_e h)) (fun z => absurd z (by omega))
  | succ k ih =>
    intro i x1 x3 x5 e h
    have go : ∀ y3 y5 : Int64, y3 = (if (nI i - nI i / 7 * 7) = 0 then x3 ||| gb_b i else x3) → y5 = (if (nI i - nI i / 7 * 7) = 6 then x5 ||| gb_b i else x5) → wX_init_38 post mc ms kc ks f1 f2 f3 f4 f5 f6 f7 f8 f9 f10 a1 a2 a3 (k + 1) (x1 ||| gb_b i) y3 y5 (nI (i + 1)) := by
      intro y3 y5 e3 e5
      refine ih (i + 1) _ _ _ (by omega) ?_
      rw [e3, e5]
      exact h
    have in67 : ∀ y3 : Int64, y3 = (if (nI i - nI i / 7 * 7) = 0 then x3 ||| gb_b i else x3) → wX_init_67 post mc ms (wX_init_38 post mc ms kc ks f1 f2 f3 f4 f5 f6 f7 f8 f9 f10 a1 a2 a3 (k + 1)) (x1 ||| gb_b i) y3 x5 (nI i) kc ks f1 f2 f3 f4 f5 f6 f7 f8 f9 f10 a1 a2 a3 :=
      fun y3 e3 => ⟨by decide, br_c
        (fun c => nm_r (e' := x5 ||| gb_b i) rfl (nm_r (nI_1 i) (go _ _ e3 (if_pos c).symm)))
        (fun c => nm_r (nI_1 i) (go _ _ e3 (if_neg c).symm))⟩
    refine pk_le 49 i (fun z => absurd z (by omega)) (fun _ => nm_r (e' := x1 ||| gb_b i) rfl ⟨by decide, br_c ?_ ?_⟩)
    · exact fun c => nm_r (e' := x3 ||| gb_b i) rfl (in67 _ (if_pos c).symm)
    · exact fun c => in67 _ (if_neg c).symm
theorem gb_init {post : St2 → Prop} (h : post (gb_A, gb_NF, gb_NL, 0, 0, 0, 0, 0, 0, 0, fun _ => 0, fun _ => 0, fun _ => 0)) : wpX_init post 3 120 (0, 0, 0, 0, 0, 0, 0, 0, 0, 0) := by
  refine ⟨by decide, by decide, by decide, by decide, by decide, by decide, 50, ?_⟩
  refine gb_i38 49 0 0 0 0 rfl ?_
  rw [gb_k]
  exact h
/-! sets of points -/
theorem gb_pl0 {post : Int32 → Prop} {p : Int32} (hq : p = 0 ∨ p = 1) (h : post 0) : wpX_badPlayer post (f1, f2, f3, f4, f5, f6, f7, f8, f9, f10, a1, a2, a3) p := by
  rcases hq with rfl | rfl
  · exact br_f (by decide) (br_t (by decide) h)
  · exact br_f (by decide) (br_t (by decide) h)
theorem gb_pl1 {post : Int32 → Prop} {p : Int32} (hq : ¬ (p = 0 ∨ p = 1)) (h : post 1) : wpX_badPlayer post (f1, f2, f3, f4, f5, f6, f7, f8, f9, f10, a1, a2, a3) p := by
  refine br_c (fun _ => h) (fun c => br_f (fun d => hq ?_) h)
  obtain ⟨j, hj, rfl⟩ := nI_of2 (n := 1) (by decide) c d
  have hj' : j = 0 ∨ j = 1 := by omega
  rcases hj' with rfl | rfl
  · exact Or.inl rfl
  · exact Or.inr rfl
theorem gb_pt0 {post : Int32 → Prop} {k : Nat} (hk : k < 49) (h : post 0) : wpX_badPoint post (f1, f2, f3, f4, f5, f6, f7, f8, f9, f10, a1, a2, a3) (nI k) :=
  br_f (nI_pos (by omega)) (br_t (nI_lt (b := 49) hk (by decide)) h)
theorem gb_pt1 {post : Int32 → Prop} {q : Int32} (hq : q < 0 ∨ 48 < q) (h : post 1) : wpX_badPoint post (f1, f2, f3, f4, f5, f6, f7, f8, f9, f10, a1, a2, a3) q := by
  refine br_c (fun _ => h) (fun c => br_f (fun d => ?_) h)
  rcases hq with hq | hq
  · exact c hq
  · rw [Int32.lt_iff_toInt_lt] at hq d
    have e1 : (48 : Int32).toInt = 48 := by decide
    have e2 : (49 : Int32).toInt = 49 := by decide
    omega
theorem gb_around {post : Int64 → Prop} {x : Int64} (h : post (gb_ar x)) : wpX_around post (gb_A, gb_NF, gb_NL, f4, f5, f6, f7, f8, f9, f10, a1, a2, a3) x :=
  nm_e (nm_e (nm_e (nm_e h)))
theorem gb_grown {post : Int64 → Prop} {x w y : Int64} (hy : x &&& w = y) (hf : y ||| (gb_ar y &&& w) = y) (h : post y) : wpX_grown post (gb_A, gb_NF, gb_NL, f4, f5, f6, f7, f8, f9, f10, a1, a2, a3) x w := by
  refine nm_r hy ⟨2, br_f (by decide) (br_f (by decide) (gb_around (nm_r hf ?_)))⟩
  exact br_t rfl (nm_e (br_f (by decide) (br_t rfl h)))
theorem gb_dead0 {post : Int64 → Prop} {o : Int64} (h : post 0) : wpX_dead post (gb_A, gb_NF, gb_NL, f4, f5, f6, f7, f8, f9, f10, a1, a2, a3) 0 o := by
  unfold wpX_dead
  dsimp only
  refine gb_around ?_
  refine nm_r (e' := 0) Int64.zero_and ?_
  refine gb_grown (y := 0) (by decide) (by decide) ?_
  have e : (0 : Int64) &&& (0 ^^^ (-1)) = 0 := by decide
  rw [e]
  exact h
theorem gb_s5 {post : Int32 → Prop} {x : Int64} (k : Nat) : ∀ (i : Nat) (n : Int32), i + k = 49 → post (gb_sz x k i n) → wX_sizeOf_5 post x f1 f2 f3 f4 f5 f6 f7 f8 f9 f10 a1 a2 a3 (k + 1) n (nI i) := by
  induction k with
  | zero =>
    intro i n e h
    exact pk_le 49 i (fun _ => h) (fun z => absurd z (by omega))
  | succ k ih =>
    intro i n e h
    have go : ∀ m : Int32, m = (if gb_in x i then n + 1 else n) → wX_sizeOf_5 post x f1 f2 f3 f4 f5 f6 f7 f8 f9 f10 a1 a2 a3 (k + 1) m (nI (i + 1)) := by
      intro m em
      refine ih (i + 1) m (by omega) ?_
      rw [em]
      exact h
    refine pk_le 49 i (fun z => absurd z (by omega)) (fun _ => br_c ?_ ?_)
    · exact fun c => nm_e (nm_r (nI_1 i) (go _ (if_pos c).symm))
    · exact fun c => nm_r (nI_1 i) (go _ (if_neg c).symm)
theorem gb_size {post : Int32 → Prop} {x : Int64} {n : Int32} (e : gb_sz x 49 0 0 = n) (h : post n) : wpX_sizeOf post (f1, f2, f3, f4, f5, f6, f7, f8, f9, f10, a1, a2, a3) x := by
  refine ⟨50, gb_s5 49 0 0 rfl ?_⟩
  rw [e]
  exact h
theorem gb_sto0 {post : Int64 → Prop} (h : post f4) : wpX_stones post (f1, f2, f3, f4, f5, f6, f7, f8, f9, f10, a1, a2, a3) 0 := br_t rfl h
theorem gb_sto1 {post : Int64 → Prop} {p : Int32} (hq : ¬ p = 0) (h : post f5) : wpX_stones post (f1, f2, f3, f4, f5, f6, f7, f8, f9, f10, a1, a2, a3) p := br_f hq h
end
end
section
/-! attempt, store, play over the empty board -/
section
variable {a1 a2 : Nat → Int64} {a3 : Nat → Int32}
theorem gb_att0 {post : Int32 → St2 → Prop} {k : Nat} (hk : k < 49) (H : post 0 (gb_A, gb_NF, gb_NL, 0, 0, 0, 0, 0, gb_b k, 0, a1, a2, a3)) : wpX_attempt post (gb_A, gb_NF, gb_NL, 0, 0, 0, 0, 0, 0, 0, a1, a2, a3) 0 (nI k) := by
  obtain ⟨l1, l2, l3⟩ := gb_lone k hk
  unfold wpX_attempt
  dsimp only
  refine gb_pl0 (Or.inl rfl) (br_t rfl (gb_pt0 hk (br_t rfl (nm_r (e' := gb_b k) rfl (br_t (gb_no0 k hk).2.2 ?_)))))
  refine gb_sto0 (nm_r (e' := gb_b k) Int64.zero_or ?_)
  refine gb_sto1 (by decide) (nm_r (e' := gb_A &&& (gb_b k ^^^ (-1))) (by rw [Int64.or_zero]) ?_)
  refine gb_dead0 (nm_r (e' := 0) (by decide) (nm_r (e' := gb_A &&& (gb_b k ^^^ (-1))) Int64.or_zero ?_))
  refine gb_grown l1 l2 (gb_around (br_f l3 (br_t rfl ?_)))
  refine br_t rfl (br_t (by decide) ?_)
  exact gb_size gb_sz0 H
theorem gb_att1 {post : Int32 → St2 → Prop} {k : Nat} (hk : k < 49) (H : post 0 (gb_A, gb_NF, gb_NL, 0, 0, 0, 0, 0, 0, gb_b k, a1, a2, a3)) : wpX_attempt post (gb_A, gb_NF, gb_NL, 0, 0, 0, 0, 0, 0, 0, a1, a2, a3) 1 (nI k) := by
  obtain ⟨l1, l2, l3⟩ := gb_lone k hk
  unfold wpX_attempt
  dsimp only
  refine gb_pl0 (Or.inr rfl) (br_t rfl (gb_pt0 hk (br_t rfl (nm_r (e' := gb_b k) rfl (br_t (gb_no0 k hk).2.2 ?_)))))
  refine gb_sto1 (by decide) (nm_r (e' := gb_b k) Int64.zero_or ?_)
  refine br_t (by decide) (nm_r (e' := gb_A &&& (gb_b k ^^^ (-1))) (by rw [Int64.or_zero]) ?_)
  refine gb_dead0 (nm_r (e' := 0) (by decide) (nm_r (e' := gb_A &&& (gb_b k ^^^ (-1))) Int64.or_zero ?_))
  refine gb_grown l1 l2 (gb_around (br_f l3 (br_f (by decide) ?_)))
  refine br_f (by decide) (br_t (by decide) ?_)
  exact gb_size gb_sz0 H
theorem gb_attN {post : Int32 → St2 → Prop} {p q : Int32} (h : ¬ (p = 0 ∨ p = 1) ∨ (q < 0 ∨ 48 < q)) (H : post (-1) (gb_A, gb_NF, gb_NL, 0, 0, 0, 0, 0, 0, 0, a1, a2, a3)) : wpX_attempt post (gb_A, gb_NF, gb_NL, 0, 0, 0, 0, 0, 0, 0, a1, a2, a3) p q := by
  unfold wpX_attempt
  dsimp only
  by_cases hq : p = 0 ∨ p = 1
  · rcases h with h | h
    · exact absurd hq h
    · exact gb_pl0 hq (br_t rfl (gb_pt1 h (br_f (by decide) H)))
  · exact gb_pl1 hq (br_f (by decide) H)
theorem gb_play0 {post : Int32 → St2 → Prop} {k : Nat} (hk : k < 49) (H : ∀ b1 b2 b3, post 0 (gb_A, gb_NF, gb_NL, gb_b k, 0, 1, 0, 0, gb_b k, 0, b1, b2, b3)) : wpX_play post (gb_A, gb_NF, gb_NL, 0, 0, 0, 0, 0, 0, 0, a1, a2, a3) 0 (nI k) := by
  unfold wpX_play
  dsimp only
  refine gb_att0 hk ?_
  dsimp only
  refine br_f (by decide) (br_f (by decide) (br_f (by decide) (br_t (by decide) ?_)))
  unfold wpX_store
  dsimp only
  refine ⟨pk_in 0 40 (by decide), nm_e ⟨pk_in 0 40 (by decide), nm_e ⟨pk_in 0 40 (by decide), nm_e (nm_r (e' := 1) (by decide) ?_)⟩⟩⟩
  exact br_t rfl (nm_r (e' := 0) (by decide) (H _ _ _))
theorem gb_play1 {post : Int32 → St2 → Prop} {k : Nat} (hk : k < 49) (H : ∀ b1 b2 b3, post 0 (gb_A, gb_NF, gb_NL, 0, gb_b k, 1, 0, 0, 0, gb_b k, b1, b2, b3)) : wpX_play post (gb_A, gb_NF, gb_NL, 0, 0, 0, 0, 0, 0, 0, a1, a2, a3) 1 (nI k) := by
  unfold wpX_play
  dsimp only
  refine gb_att1 hk ?_
  dsimp only
  refine br_f (by decide) (br_f (by decide) (br_f (by decide) (br_t (by decide) ?_)))
  unfold wpX_store
  dsimp only
  refine ⟨pk_in 0 40 (by decide), nm_e ⟨pk_in 0 40 (by decide), nm_e ⟨pk_in 0 40 (by decide), nm_e (nm_r (e' := 1) (by decide) ?_)⟩⟩⟩
  exact br_f (by decide) (nm_r (e' := 0) (by decide) (H _ _ _))
theorem gb_playN {post : Int32 → St2 → Prop} {p q : Int32} (h : ¬ (p = 0 ∨ p = 1) ∨ (q < 0 ∨ 48 < q)) (H : post (-1) (gb_A, gb_NF, gb_NL, 0, 0, 0, 0, 0, 0, 0, a1, a2, a3)) : wpX_play post (gb_A, gb_NF, gb_NL, 0, 0, 0, 0, 0, 0, 0, a1, a2, a3) p q := by
  unfold wpX_play
  dsimp only
  exact gb_attN h (br_t rfl H)
end
end
section
/-! at, liberties, set, undo over a board with at most one stone -/
/-- the board (b, w) seen at r: x12 says whether r is a point, x13 whether the stone of p lies there -/
def gb_B (b w : Int64) (r x12 x13 p : Int32) : Prop := (x12 = 0 ∧ (r < 0 ∨ 48 < r)) ∨ ∃ j : Nat, j < 49 ∧ r = nI j ∧ x12 = 1 ∧ ((x13 = 0 ∧ gb_no b w j) ∨ (x13 = 1 ∧ ((p = 0 ∧ b = gb_b j ∧ w = 0) ∨ (p = 1 ∧ b = 0 ∧ w = gb_b j))))
/-- the law's free: neighbours of r -/
def gb_fr (x12 r : Int32) : Int32 := if x12 = 0 then 0 else gb_nb (r - r / 7 * 7) (r / 7)
/-- the law's sIn -/
def gb_x17 (x12 s : Int32) : Int32 := if x12 = 0 then 0 else if s < 0 then 0 else if 2 < s then 0 else 1
/-- the law's fits -/
def gb_x18 (x17 x13 s : Int32) : Int32 := if x17 = 0 then 0 else if s = 2 then (if x13 = 1 then 1 else 0) else (if x13 = 0 then 1 else 0)
section
variable {b w : Int64} {c t1 t2 : Int32} {f9 f10 : Int64} {a1 a2 : Nat → Int64} {a3 : Nat → Int32}
theorem gb_atO {post : Int32 → Prop} {r : Int32} (h : r < 0 ∨ 48 < r) (H : post (-1)) : wpX_at post (gb_A, gb_NF, gb_NL, b, w, c, t1, t2, f9, f10, a1, a2, a3) r := by
  unfold wpX_at
  dsimp only
  exact gb_pt1 h (br_f (by decide) H)
theorem gb_atN {post : Int32 → Prop} {j : Nat} (hj : j < 49) (h : gb_no b w j) (H : post 2) : wpX_at post (gb_A, gb_NF, gb_NL, b, w, c, t1, t2, f9, f10, a1, a2, a3) (nI j) := by
  unfold wpX_at
  dsimp only
  exact gb_pt0 hj (br_t rfl (br_f h.1 (br_f h.2.1 H)))
theorem gb_at0 {post : Int32 → Prop} {j : Nat} (hj : j < 49) (H : post 0) : wpX_at post (gb_A, gb_NF, gb_NL, gb_b j, 0, c, t1, t2, f9, f10, a1, a2, a3) (nI j) := by
  unfold wpX_at
  dsimp only
  exact gb_pt0 hj (br_t rfl (br_t (gb_st j hj).1 H))
theorem gb_at1 {post : Int32 → Prop} {j : Nat} (hj : j < 49) (H : post 1) : wpX_at post (gb_A, gb_NF, gb_NL, 0, gb_b j, c, t1, t2, f9, f10, a1, a2, a3) (nI j) := by
  unfold wpX_at
  dsimp only
  exact gb_pt0 hj (br_t rfl (br_f (gb_st j hj).2.1 (br_t (gb_st j hj).1 H)))
theorem gb_at {post : Int32 → Prop} {r x12 x13 p : Int32} (B : gb_B b w r x12 x13 p) (H : post (if x12 = 0 then -1 else if x13 = 0 then 2 else p)) : wpX_at post (gb_A, gb_NF, gb_NL, b, w, c, t1, t2, f9, f10, a1, a2, a3) r := by
  rcases B with ⟨rfl, h⟩ | ⟨j, hj, rfl, rfl, ⟨rfl, h⟩ | ⟨rfl, ⟨rfl, rfl, rfl⟩ | ⟨rfl, rfl, rfl⟩⟩⟩
  · exact gb_atO h H
  · exact gb_atN hj h H
  · exact gb_at0 hj H
  · exact gb_at1 hj H
theorem gb_fr1 (r : Int32) : gb_fr 1 r = gb_nb (r - r / 7 * 7) (r / 7) := if_neg (by decide)
theorem gb_liberties {post : Int32 → Prop} {r x12 x13 p : Int32} (B : gb_B b w r x12 x13 p) (H : post (if x12 = 0 then -1 else if x13 = 0 then -2 else gb_fr x12 r)) : wpX_liberties post (gb_A, gb_NF, gb_NL, b, w, c, t1, t2, f9, f10, a1, a2, a3) r := by
  unfold wpX_liberties
  dsimp only
  rcases B with ⟨rfl, h⟩ | ⟨j, hj, rfl, rfl, ⟨rfl, h⟩ | ⟨rfl, ⟨rfl, rfl, rfl⟩ | ⟨rfl, rfl, rfl⟩⟩⟩
  · exact gb_atO h (br_t rfl (br_f (by decide) H))
  · exact gb_atN hj h (br_f (by decide) (br_t rfl (br_t rfl H)))
  · obtain ⟨l1, l2, l3⟩ := gb_lone j hj
    refine gb_at0 hj (br_f (by decide) (br_f (by decide) ?_))
    unfold wpX_groupAt
    dsimp only
    refine nm_r (e' := gb_b j) rfl (br_f (gb_st j hj).2.2.1 (gb_grown l1 l2 ?_))
    rw [if_neg (show ¬ (1 : Int32) = 0 by decide), if_neg (show ¬ (1 : Int32) = 0 by decide), gb_fr1] at H
    unfold wpX_empty
    dsimp only
    refine gb_around ?_
    refine nm_r (e' := gb_ar (gb_b j) &&& (gb_A &&& (gb_b j ^^^ (-1)))) (by rw [Int64.or_zero]) ?_
    exact gb_size (gb_libs j hj) H
  · obtain ⟨l1, l2, l3⟩ := gb_lone j hj
    refine gb_at1 hj (br_f (by decide) (br_f (by decide) ?_))
    unfold wpX_groupAt
    dsimp only
    refine nm_r (e' := gb_b j) rfl (br_t (gb_st j hj).2.2.2.1 (gb_grown l1 l2 ?_))
    rw [if_neg (show ¬ (1 : Int32) = 0 by decide), if_neg (show ¬ (1 : Int32) = 0 by decide), gb_fr1] at H
    unfold wpX_empty
    dsimp only
    refine gb_around ?_
    refine nm_r (e' := gb_ar (gb_b j) &&& (gb_A &&& (gb_b j ^^^ (-1)))) (by rw [Int64.zero_or]) ?_
    exact gb_size (gb_libs j hj) H
theorem gb_set58 {post : Int32 → St2 → Prop} {s z0 z1 : Int32} {x3 : Int64} (hz : ¬ z1 = z0) (H : ∀ b' w', post 0 (gb_A, gb_NF, gb_NL, b', w', 0, 0, 0, f9, f10, a1, a2, a3)) : wX_set_58 post s x3 z0 z1 gb_A gb_NF gb_NL b w c t1 t2 f9 f10 a1 a2 a3 :=
  br_f hz (br_c (fun _ => nm_e (H _ _)) (fun _ => br_c (fun _ => nm_e (H _ _)) (fun _ => nm_e (nm_e (H _ _)))))
/-- set where s and r are in range; z1: whether a stone lies at r -/
theorem gb_set44 {post : Int32 → St2 → Prop} {s z1 : Int32} {x3 : Int64} (hz : z1 = 0 ∨ z1 = 1) (H : ∀ b' w' u1 u2, post (if gb_x18 1 z1 s = 0 then -2 else 0) (gb_A, gb_NF, gb_NL, b', w', (if gb_x18 1 z1 s = 0 then c else 0), u1, u2, f9, f10, a1, a2, a3)) : wX_set_44 post s x3 z1 gb_A gb_NF gb_NL b w c t1 t2 f9 f10 a1 a2 a3 := by
  by_cases hs : s = 2
  · refine br_t hs ?_
    rcases hz with rfl | rfl
    · have e : gb_x18 1 0 s = 0 := by unfold gb_x18; rw [if_neg (by decide), if_pos hs, if_neg (by decide)]
      rw [e] at H
      exact br_t rfl (H _ _ _ _)
    · have e : gb_x18 1 1 s = 1 := by unfold gb_x18; rw [if_neg (by decide), if_pos hs, if_pos rfl]
      rw [e] at H
      exact gb_set58 (by decide) (fun b' w' => H b' w' 0 0)
  · refine br_f hs ?_
    rcases hz with rfl | rfl
    · have e : gb_x18 1 0 s = 1 := by unfold gb_x18; rw [if_neg (by decide), if_neg hs, if_pos rfl]
      rw [e] at H
      exact gb_set58 (by decide) (fun b' w' => H b' w' 0 0)
    · have e : gb_x18 1 1 s = 0 := by unfold gb_x18; rw [if_neg (by decide), if_neg hs, if_neg (by decide)]
      rw [e] at H
      exact br_t rfl (H _ _ _ _)
theorem gb_set {post : Int32 → St2 → Prop} {r s x12 x13 p : Int32} (B : gb_B b w r x12 x13 p)
    (H : ∀ b' w' u1 u2, post (if gb_x17 x12 s = 0 then -1 else if gb_x18 (gb_x17 x12 s) x13 s = 0 then -2 else 0) (gb_A, gb_NF, gb_NL, b', w', (if gb_x18 (gb_x17 x12 s) x13 s = 0 then c else 0), u1, u2, f9, f10, a1, a2, a3)) :
    wpX_set post (gb_A, gb_NF, gb_NL, b, w, c, t1, t2, f9, f10, a1, a2, a3) s r := by
  unfold wpX_set
  dsimp only
  have out : gb_x17 x12 s = 0 → post (-1) (gb_A, gb_NF, gb_NL, b, w, c, t1, t2, f9, f10, a1, a2, a3) := by
    intro e
    have h := H b w t1 t2
    rw [e] at h
    exact h
  by_cases h0 : s < 0
  · refine br_t h0 (out ?_)
    unfold gb_x17
    rw [if_pos h0, ite_self]
  · refine br_f h0 ?_
    by_cases h2 : 2 < s
    · refine br_t h2 (out ?_)
      unfold gb_x17
      rw [if_neg h0, if_pos h2, ite_self]
    · refine br_f h2 ?_
      rcases B with ⟨e, h⟩ | ⟨j, hj, rfl, rfl, h⟩
      · refine gb_pt1 h (br_f (by decide) (out ?_))
        unfold gb_x17
        rw [if_pos e]
      · have e : gb_x17 1 s = 1 := by
          unfold gb_x17
          rw [if_neg (by decide), if_neg h0, if_neg h2]
        rw [e] at H
        refine gb_pt0 hj (br_t rfl (nm_r (e' := gb_b j) rfl ?_))
        rcases h with ⟨rfl, h⟩ | ⟨rfl, ⟨rfl, rfl, rfl⟩ | ⟨rfl, rfl, rfl⟩⟩
        · exact br_t h.2.2 (gb_set44 (Or.inl rfl) H)
        · exact br_f (gb_st j hj).2.2.2.2.1 (gb_set44 (Or.inr rfl) H)
        · exact br_f (gb_st j hj).2.2.2.2.2 (gb_set44 (Or.inr rfl) H)
theorem gb_undo {post : Int32 → St2 → Prop} (hc : c = 0 ∨ c = 1) (H : ∀ b' w' c' u1 u2, post (if c = 0 then -2 else 0) (gb_A, gb_NF, gb_NL, b', w', c', u1, u2, f9, f10, a1, a2, a3)) : wpX_undo post (gb_A, gb_NF, gb_NL, b, w, c, t1, t2, f9, f10, a1, a2, a3) := by
  unfold wpX_undo
  dsimp only
  rcases hc with rfl | rfl
  · exact br_t rfl (H _ _ _ _ _)
  · refine br_f (by decide) (nm_r (e' := 0) (by decide) ⟨pk_in 0 40 (by decide), nm_e ⟨pk_in 0 40 (by decide), nm_e ⟨pk_in 0 40 (by decide), by decide, nm_e ⟨pk_in 0 40 (by decide), by decide, nm_e ?_⟩⟩⟩⟩)
    exact H _ _ _ _ _
end
end
section
/-! the law's own text: flags and answers -/
/-- the law's move -/
def gb_mv (p q : Int32) : Int32 := if p = 0 ∨ p = 1 then (if q < 0 then 0 else if 48 < q then 0 else 1) else 0
/-- the law's rIn -/
def gb_rin (r : Int32) : Int32 := if r < 0 then 0 else if 48 < r then 0 else 1
/-- the law's stone -/
def gb_stn (x11 q r : Int32) : Int32 := if x11 = 0 then 0 else if q = r then 1 else 0
/-- the answers are what the law asks -/
def gb_ok (x0 x5 x6 x7 x8 x9 x10 x11 x12 x13 x16 x17 x18 : Int32) : Prop :=
  (x5 = if x11 = 0 then -1 else 0) ∧ (x6 = if x12 = 0 then -1 else if x13 = 0 then 2 else x0) ∧ (x7 = if x12 = 0 then -1 else if x13 = 0 then -2 else x16) ∧
  (x8 = if x17 = 0 then -1 else if x18 = 0 then -2 else 0) ∧ (x9 = if x11 = 0 then 0 else if x18 = 0 then 1 else 0) ∧ (x10 = if x11 = 0 then -2 else if x18 = 0 then 0 else -2)
section
variable {post : Int32 → St0 → Prop} {mc ms kc ks : Nat} {x0 x1 x2 x3 x5 x6 x7 x8 x9 x10 x11 x12 x13 x14 x15 x16 x17 x18 z0 z1 : Int32}
theorem gb_l381 (hp : post 1 ()) (h : z1 = z0) : wL_lawOf_381 post mc ms z0 z1 kc ks := br_t h hp
theorem gb_l379 (hp : post 1 ()) (h : z0 = -2) : wL_lawOf_379 post mc ms z0 kc ks := by
  unfold wL_lawOf_379
  exact gb_l381 hp h
theorem gb_l360 (hp : post 1 ()) (h10 : x10 = if x11 = 0 then -2 else if x18 = 0 then 0 else -2) (h : z1 = z0) : wL_lawOf_360 post mc ms x10 x11 x18 z0 z1 kc ks :=
  br_t h (br_c (fun c => gb_l379 hp (h10.trans (if_pos c))) (fun c => br_c (fun d => gb_l381 hp (h10.trans ((if_neg c).trans (if_pos d)))) (fun d => gb_l379 hp (h10.trans ((if_neg c).trans (if_neg d))))))
theorem gb_l359 (hp : post 1 ()) (h10 : x10 = if x11 = 0 then -2 else if x18 = 0 then 0 else -2) (h : z0 = 0) : wL_lawOf_359 post mc ms x10 x11 x18 z0 kc ks := by
  unfold wL_lawOf_359
  exact gb_l360 hp h10 h
theorem gb_l340 (hp : post 1 ()) (h9 : x9 = if x11 = 0 then 0 else if x18 = 0 then 1 else 0) (h10 : x10 = if x11 = 0 then -2 else if x18 = 0 then 0 else -2) (h : z1 = z0) : wL_lawOf_340 post mc ms x9 x10 x11 x18 z0 z1 kc ks :=
  br_t h (br_c (fun c => gb_l359 hp h10 (h9.trans (if_pos c))) (fun c => br_c (fun d => gb_l360 hp h10 (h9.trans ((if_neg c).trans (if_pos d)))) (fun d => gb_l359 hp h10 (h9.trans ((if_neg c).trans (if_neg d))))))
theorem gb_l315 (hp : post 1 ()) (h8 : x8 = if x17 = 0 then -1 else if x18 = 0 then -2 else 0) (h9 : x9 = if x11 = 0 then 0 else if x18 = 0 then 1 else 0) (h10 : x10 = if x11 = 0 then -2 else if x18 = 0 then 0 else -2) (h : z1 = z0) : wL_lawOf_315 post mc ms x8 x9 x10 x11 x17 x18 z0 z1 kc ks :=
  br_t h (br_c (fun c => gb_l340 hp h9 h10 (h8.trans (if_pos c))) (fun c => br_c (fun d => gb_l340 hp h9 h10 (h8.trans ((if_neg c).trans (if_pos d)))) (fun d => gb_l340 hp h9 h10 (h8.trans ((if_neg c).trans (if_neg d))))))
theorem gb_l289 (hp : post 1 ()) (h7 : x7 = if x12 = 0 then -1 else if x13 = 0 then -2 else x16) (h8 : x8 = if x17 = 0 then -1 else if x18 = 0 then -2 else 0) (h9 : x9 = if x11 = 0 then 0 else if x18 = 0 then 1 else 0) (h10 : x10 = if x11 = 0 then -2 else if x18 = 0 then 0 else -2) (h : z1 = z0) : wL_lawOf_289 post mc ms x7 x8 x9 x10 x11 x12 x13 x16 x17 x18 z0 z1 kc ks :=
  br_t h (br_c (fun c => gb_l315 hp h8 h9 h10 (h7.trans (if_pos c))) (fun c => br_c (fun d => gb_l315 hp h8 h9 h10 (h7.trans ((if_neg c).trans (if_pos d)))) (fun d => gb_l315 hp h8 h9 h10 (h7.trans ((if_neg c).trans (if_neg d))))))
theorem gb_l265 (hp : post 1 ()) (ok : gb_ok x0 x5 x6 x7 x8 x9 x10 x11 x12 x13 x16 x17 x18) (h : z1 = z0) : wL_lawOf_265 post mc ms x0 x6 x7 x8 x9 x10 x11 x12 x13 x16 x17 x18 z0 z1 kc ks := by
  obtain ⟨_, h6, h7, h8, h9, h10⟩ := ok
  exact br_t h (br_c (fun c => gb_l289 hp h7 h8 h9 h10 (h6.trans (if_pos c))) (fun c => br_c (fun d => gb_l289 hp h7 h8 h9 h10 (h6.trans ((if_neg c).trans (if_pos d)))) (fun d => gb_l289 hp h7 h8 h9 h10 (h6.trans ((if_neg c).trans (if_neg d))))))
theorem gb_l251 (hp : post 1 ()) (ok : gb_ok x0 x5 x6 x7 x8 x9 x10 x11 x12 x13 x16 x17 x18) : wL_lawOf_251 post mc ms x0 x5 x6 x7 x8 x9 x10 x11 x12 x13 x16 x17 x18 kc ks :=
  br_c (fun c => gb_l265 hp ok (ok.1.trans (if_pos c))) (fun c => gb_l265 hp ok (ok.1.trans (if_neg c)))
theorem gb_l250 (hp : post 1 ()) (ok : gb_ok x0 x5 x6 x7 x8 x9 x10 x11 x12 x13 x16 x17 0) : wL_lawOf_250 post mc ms x0 x5 x6 x7 x8 x9 x10 x11 x12 x13 x16 x17 kc ks := by
  unfold wL_lawOf_250
  exact gb_l251 hp ok
theorem gb_l224 (hp : post 1 ()) (ok : gb_ok x0 x5 x6 x7 x8 x9 x10 x11 x12 x13 x16 x17 (gb_x18 x17 x13 x3)) : wL_lawOf_224 post mc ms x0 x3 x5 x6 x7 x8 x9 x10 x11 x12 x13 x16 x17 kc ks := by
  unfold gb_x18 at ok
  refine br_c (fun c => ?_) (fun c => br_c (fun d => ?_) (fun d => ?_))
  · rw [if_pos c] at ok
    exact gb_l250 hp ok
  · rw [if_neg c, if_pos d] at ok
    refine br_c (fun e => ?_) (fun e => ?_)
    · rw [if_pos e] at ok
      exact gb_l251 hp ok
    · rw [if_neg e] at ok
      exact gb_l250 hp ok
  · rw [if_neg c, if_neg d] at ok
    refine br_c (fun e => ?_) (fun e => ?_)
    · rw [if_pos e] at ok
      exact gb_l251 hp ok
    · rw [if_neg e] at ok
      exact gb_l250 hp ok
theorem gb_l223 (hp : post 1 ()) (ok : gb_ok x0 x5 x6 x7 x8 x9 x10 x11 x12 x13 x16 0 (gb_x18 0 x13 x3)) : wL_lawOf_223 post mc ms x0 x3 x5 x6 x7 x8 x9 x10 x11 x12 x13 x16 kc ks := by
  unfold wL_lawOf_223
  exact gb_l224 hp ok
theorem gb_l203 (hp : post 1 ()) (ok : gb_ok x0 x5 x6 x7 x8 x9 x10 x11 x12 x13 x16 (gb_x17 x12 x3) (gb_x18 (gb_x17 x12 x3) x13 x3)) : wL_lawOf_203 post mc ms x0 x3 x5 x6 x7 x8 x9 x10 x11 x12 x13 x16 kc ks := by
  unfold gb_x17 at ok
  refine br_c (fun c => ?_) (fun c => br_c (fun d => ?_) (fun d => br_c (fun e => ?_) (fun e => ?_)))
  · rw [if_pos c] at ok
    exact gb_l223 hp ok
  · rw [if_neg c, if_pos d] at ok
    exact gb_l223 hp ok
  · rw [if_neg c, if_neg d, if_pos e] at ok
    exact gb_l223 hp ok
  · rw [if_neg c, if_neg d, if_neg e] at ok
    exact gb_l224 hp ok
theorem gb_l202 (h : wL_lawOf_203 post mc ms x0 x3 x5 x6 x7 x8 x9 x10 x11 x12 x13 (z1 + z0) kc ks) : wL_lawOf_202 post mc ms x0 x3 x5 x6 x7 x8 x9 x10 x11 x12 x13 z0 z1 kc ks := by
  unfold wL_lawOf_202
  exact h
theorem gb_l189 (h : wL_lawOf_203 post mc ms x0 x3 x5 x6 x7 x8 x9 x10 x11 x12 x13 ((z1 + z0) + (if 6 ≤ x15 then 0 else 1)) kc ks) : wL_lawOf_189 post mc ms x0 x3 x5 x6 x7 x8 x9 x10 x11 x12 x13 x15 z0 z1 kc ks := by
  refine br_c (fun c => gb_l202 ?_) (fun c => gb_l202 ?_)
  · rw [if_pos c] at h
    exact h
  · rw [if_neg c] at h
    exact h
theorem gb_l178 (h : wL_lawOf_203 post mc ms x0 x3 x5 x6 x7 x8 x9 x10 x11 x12 x13 (((z1 + z0) + (if x15 ≤ 0 then 0 else 1)) + (if 6 ≤ x15 then 0 else 1)) kc ks) : wL_lawOf_178 post mc ms x0 x3 x5 x6 x7 x8 x9 x10 x11 x12 x13 x15 z0 z1 kc ks := by
  refine br_c (fun c => gb_l189 ?_) (fun c => gb_l189 ?_)
  · rw [if_pos c] at h
    exact h
  · rw [if_neg c] at h
    exact h
theorem gb_l166 (h : wL_lawOf_203 post mc ms x0 x3 x5 x6 x7 x8 x9 x10 x11 x12 x13 (((z0 + (if 6 ≤ x14 then 0 else 1)) + (if x15 ≤ 0 then 0 else 1)) + (if 6 ≤ x15 then 0 else 1)) kc ks) : wL_lawOf_166 post mc ms x0 x3 x5 x6 x7 x8 x9 x10 x11 x12 x13 x14 x15 z0 kc ks := by
  refine br_c (fun c => gb_l178 ?_) (fun c => gb_l178 ?_)
  · rw [if_pos c] at h
    exact h
  · rw [if_neg c] at h
    exact h
theorem gb_l145 (h : wL_lawOf_203 post mc ms x0 x3 x5 x6 x7 x8 x9 x10 x11 x12 x13 (if x12 = 0 then 0 else gb_nb x14 z0) kc ks) : wL_lawOf_145 post mc ms x0 x3 x5 x6 x7 x8 x9 x10 x11 x12 x13 x14 z0 kc ks := by
  refine br_c (fun c => ?_) (fun c => ?_)
  · rw [if_pos c] at h
    exact h
  · rw [if_neg c] at h
    unfold gb_nb at h
    refine br_c (fun d => gb_l166 ?_) (fun d => gb_l166 ?_)
    · rw [if_pos d] at h
      exact h
    · rw [if_neg d] at h
      exact h
theorem gb_l115 (h : wL_lawOf_203 post mc ms x0 x3 x5 x6 x7 x8 x9 x10 x11 x12 x13 (gb_fr x12 x2) kc ks) : wL_lawOf_115 post mc ms x0 x2 x3 x5 x6 x7 x8 x9 x10 x11 x12 x13 kc ks := by
  unfold gb_fr at h
  refine br_c (fun c => br_t c (gb_l145 ?_)) (fun c => ⟨by decide, br_f c ⟨by decide, gb_l145 h⟩⟩)
  rw [if_pos c] at h
  rw [if_pos c]
  exact h
theorem gb_l114 (h : wL_lawOf_203 post mc ms x0 x3 x5 x6 x7 x8 x9 x10 x11 x12 0 (gb_fr x12 x2) kc ks) : wL_lawOf_114 post mc ms x0 x2 x3 x5 x6 x7 x8 x9 x10 x11 x12 kc ks := by
  unfold wL_lawOf_114
  exact gb_l115 h
theorem gb_l98 (h : wL_lawOf_203 post mc ms x0 x3 x5 x6 x7 x8 x9 x10 x11 x12 (gb_stn x11 x1 x2) (gb_fr x12 x2) kc ks) : wL_lawOf_98 post mc ms x0 x1 x2 x3 x5 x6 x7 x8 x9 x10 x11 x12 kc ks := by
  unfold gb_stn at h
  refine br_c (fun c => gb_l114 ?_) (fun c => br_c (fun d => gb_l115 ?_) (fun d => gb_l114 ?_))
  · rw [if_pos c] at h
    exact h
  · rw [if_neg c, if_pos d] at h
    exact h
  · rw [if_neg c, if_neg d] at h
    exact h
theorem gb_l97 (h : wL_lawOf_203 post mc ms x0 x3 x5 x6 x7 x8 x9 x10 x11 0 (gb_stn x11 x1 x2) (gb_fr 0 x2) kc ks) : wL_lawOf_97 post mc ms x0 x1 x2 x3 x5 x6 x7 x8 x9 x10 x11 kc ks := by
  unfold wL_lawOf_97
  exact gb_l98 h
theorem gb_l81 (h : wL_lawOf_203 post mc ms x0 x3 x5 x6 x7 x8 x9 x10 x11 (gb_rin x2) (gb_stn x11 x1 x2) (gb_fr (gb_rin x2) x2) kc ks) : wL_lawOf_81 post mc ms x0 x1 x2 x3 x5 x6 x7 x8 x9 x10 x11 kc ks := by
  unfold gb_rin at h
  refine br_c (fun c => gb_l97 ?_) (fun c => br_c (fun d => gb_l97 ?_) (fun d => gb_l98 ?_))
  · rw [if_pos c] at h
    exact h
  · rw [if_neg c, if_pos d] at h
    exact h
  · rw [if_neg c, if_neg d] at h
    exact h
theorem gb_l80 (h : wL_lawOf_203 post mc ms x0 x3 x5 x6 x7 x8 x9 x10 0 (gb_rin x2) (gb_stn 0 x1 x2) (gb_fr (gb_rin x2) x2) kc ks) : wL_lawOf_80 post mc ms x0 x1 x2 x3 x5 x6 x7 x8 x9 x10 kc ks := by
  unfold wL_lawOf_80
  exact gb_l81 h
theorem gb_l66 (hq : x0 = 0 ∨ x0 = 1) (h : wL_lawOf_203 post mc ms x0 x3 x5 x6 x7 x8 x9 x10 (gb_mv x0 x1) (gb_rin x2) (gb_stn (gb_mv x0 x1) x1 x2) (gb_fr (gb_rin x2) x2) kc ks) : wL_lawOf_66 post mc ms x0 x1 x2 x3 x5 x6 x7 x8 x9 x10 kc ks := by
  unfold gb_mv at h
  rw [if_pos hq] at h
  refine br_c (fun c => gb_l80 ?_) (fun c => br_c (fun d => gb_l80 ?_) (fun d => gb_l81 ?_))
  · rw [if_pos c] at h
    exact h
  · rw [if_neg c, if_pos d] at h
    exact h
  · rw [if_neg c, if_neg d] at h
    exact h
theorem gb_l0 (h : wL_lawOf_203 post mc ms x0 x3 x5 x6 x7 x8 x9 x10 (gb_mv x0 x1) (gb_rin x2) (gb_stn (gb_mv x0 x1) x1 x2) (gb_fr (gb_rin x2) x2) kc ks) :
    ((x0 = 0 → (wL_lawOf_66 post mc ms x0 x1 x2 x3 x5 x6 x7 x8 x9 x10 kc ks)) ∧ (¬ x0 = 0 → (((x0 = 1 → (wL_lawOf_66 post mc ms x0 x1 x2 x3 x5 x6 x7 x8 x9 x10 kc ks)) ∧ (¬ x0 = 1 → (wL_lawOf_80 post mc ms x0 x1 x2 x3 x5 x6 x7 x8 x9 x10 kc ks)))))) := by
  refine br_c (fun c => gb_l66 (Or.inl c) h) (fun c => br_c (fun d => gb_l66 (Or.inr d) h) (fun d => gb_l80 ?_))
  unfold gb_mv at h
  rw [if_neg (fun z : x0 = 0 ∨ x0 = 1 => z.elim c d)] at h
  exact h
end
/-- whatever p, q, r, s: play's answer and board, and how the board looks at r -/
theorem gb_mv01 (p q : Int32) : (gb_mv p q = 0 ∧ (¬ (p = 0 ∨ p = 1) ∨ (q < 0 ∨ 48 < q))) ∨ (gb_mv p q = 1 ∧ (p = 0 ∨ p = 1) ∧ ∃ k : Nat, k < 49 ∧ q = nI k) := by
  unfold gb_mv
  by_cases hp : p = 0 ∨ p = 1
  · rw [if_pos hp]
    by_cases h0 : q < 0
    · rw [if_pos h0]
      exact Or.inl ⟨rfl, Or.inr (Or.inl h0)⟩
    · rw [if_neg h0]
      by_cases h1 : 48 < q
      · rw [if_pos h1]
        exact Or.inl ⟨rfl, Or.inr (Or.inr h1)⟩
      · rw [if_neg h1]
        obtain ⟨k, hk, e⟩ := nI_of2 (M := 48) (n := 48) (by decide) h0 (Int32.not_lt.mp h1)
        exact Or.inr ⟨rfl, hp, k, by omega, e⟩
  · rw [if_neg hp]
    exact Or.inl ⟨rfl, Or.inl hp⟩
theorem gb_rin01 (r : Int32) : (gb_rin r = 0 ∧ (r < 0 ∨ 48 < r)) ∨ (gb_rin r = 1 ∧ ∃ k : Nat, k < 49 ∧ r = nI k) := by
  unfold gb_rin
  by_cases h0 : r < 0
  · rw [if_pos h0]
    exact Or.inl ⟨rfl, Or.inl h0⟩
  · rw [if_neg h0]
    by_cases h1 : 48 < r
    · rw [if_pos h1]
      exact Or.inl ⟨rfl, Or.inr h1⟩
    · rw [if_neg h1]
      obtain ⟨k, hk, e⟩ := nI_of2 (M := 48) (n := 48) (by decide) h0 (Int32.not_lt.mp h1)
      exact Or.inr ⟨rfl, k, by omega, e⟩
/-- the empty board at r -/
theorem gb_B0 (r p q : Int32) : gb_B 0 0 r (gb_rin r) (gb_stn 0 q r) p := by
  rcases gb_rin01 r with ⟨e, h⟩ | ⟨e, j, hj, h⟩
  · exact Or.inl ⟨e, h⟩
  · exact Or.inr ⟨j, hj, h, e, Or.inl ⟨if_pos rfl, gb_no0 j hj⟩⟩
/-- the board with one stone at k, at r -/
theorem gb_B1 (r : Int32) {k : Nat} (hk : k < 49) : gb_B (gb_b k) 0 r (gb_rin r) (gb_stn 1 (nI k) r) 0 ∧ gb_B 0 (gb_b k) r (gb_rin r) (gb_stn 1 (nI k) r) 1 := by
  rcases gb_rin01 r with ⟨e, h⟩ | ⟨e, j, hj, h⟩
  · exact ⟨Or.inl ⟨e, h⟩, Or.inl ⟨e, h⟩⟩
  · by_cases hkj : k = j
    · have s1 : gb_stn 1 (nI k) r = 1 := by
        unfold gb_stn
        rw [if_neg (by decide), h, hkj, if_pos rfl]
      exact ⟨Or.inr ⟨j, hj, h, e, Or.inr ⟨s1, Or.inl ⟨rfl, by rw [hkj], rfl⟩⟩⟩, Or.inr ⟨j, hj, h, e, Or.inr ⟨s1, Or.inr ⟨rfl, rfl, by rw [hkj]⟩⟩⟩⟩
    · have s0 : gb_stn 1 (nI k) r = 0 := by
        unfold gb_stn
        rw [if_neg (by decide), h, if_neg (fun z => hkj ((nI_eq (by omega) (by omega)).mp z))]
      exact ⟨Or.inr ⟨j, hj, h, e, Or.inl ⟨s0, (gb_no1 k hk j hj hkj).1⟩⟩, Or.inr ⟨j, hj, h, e, Or.inl ⟨s0, (gb_no1 k hk j hj hkj).2⟩⟩⟩
theorem gb_play {post : Int32 → St2 → Prop} {a1 a2 : Nat → Int64} {a3 : Nat → Int32} {p q r : Int32}
    (H : ∀ b w f9 f10 b1 b2 b3, gb_B b w r (gb_rin r) (gb_stn (gb_mv p q) q r) p → (gb_mv p q = 0 ∨ gb_mv p q = 1) → post (if gb_mv p q = 0 then -1 else 0) (gb_A, gb_NF, gb_NL, b, w, gb_mv p q, 0, 0, f9, f10, b1, b2, b3)) :
    wpX_play post (gb_A, gb_NF, gb_NL, 0, 0, 0, 0, 0, 0, 0, a1, a2, a3) p q := by
  rcases gb_mv01 p q with ⟨e, h⟩ | ⟨e, h, k, hk, rfl⟩
  · rw [e] at H
    exact gb_playN h (H 0 0 0 0 a1 a2 a3 (gb_B0 r p q) (Or.inl rfl))
  · rw [e] at H
    rcases h with rfl | rfl
    · exact gb_play0 hk (fun b1 b2 b3 => H _ _ _ _ b1 b2 b3 (gb_B1 r hk).1 (Or.inr rfl))
    · exact gb_play1 hk (fun b1 b2 b3 => H _ _ _ _ b1 b2 b3 (gb_B1 r hk).2 (Or.inr rfl))
end
section
theorem gb_lawOf {post : Int32 → St0 → Prop} (hp : post 1 ()) (p q r s : Int32) : wpL_lawOf post 4 133 () p q r s := by
  unfold wpL_lawOf
  refine ⟨by decide, by decide, 3, 120, by decide, by decide, ?_⟩
  refine gb_init ?_
  refine gb_play (r := r) (fun b w f9 f10 b1 b2 b3 B hm => ?_)
  refine gb_at B ?_
  refine gb_liberties B ?_
  refine gb_set B (fun b' w' u1 u2 => ?_)
  have hc : (if gb_x18 (gb_x17 (gb_rin r) s) (gb_stn (gb_mv p q) q r) s = 0 then gb_mv p q else 0) = 0 ∨ (if gb_x18 (gb_x17 (gb_rin r) s) (gb_stn (gb_mv p q) q r) s = 0 then gb_mv p q else 0) = 1 := by
    by_cases c : gb_x18 (gb_x17 (gb_rin r) s) (gb_stn (gb_mv p q) q r) s = 0
    · rw [if_pos c]
      exact hm
    · rw [if_neg c]
      exact Or.inl rfl
  dsimp only
  unfold wpX_done
  dsimp only
  refine gb_undo hc (fun b'' w'' c'' v1 v2 => gb_l0 (gb_l203 hp ⟨rfl, rfl, rfl, rfl, ?_, ?_⟩))
  · rcases hm with e | e
    · rw [e, if_pos rfl, ite_self]
    · rw [e, if_neg (show ¬ (1 : Int32) = 0 by decide)]
  · rcases hm with e | e
    · rw [e, if_pos rfl, ite_self, if_pos rfl]
    · rw [e, if_neg (show ¬ (1 : Int32) = 0 by decide)]
      by_cases c : gb_x18 (gb_x17 (gb_rin r) s) (gb_stn 1 q r) s = 0
      · rw [if_pos c, if_pos c, if_neg (by decide)]
      · rw [if_neg c, if_neg c, if_pos rfl]
theorem gb_cell {post : Int32 → Prop} {xs : Nat → Int32} {L : Nat} (hL : L ≤ 4) (i : Nat) (hi : i < 4) (H : ∀ x, post x) : wpL_cellAt post L xs () (nI i) :=
  pk_le L i (fun _ => H 0) (fun z => ⟨pk_in i L z, H _⟩)
theorem i_vc (xs : Nat → Int32) (L : Nat) (hL : L ≤ 4) : wpL_law (fun r => r = 1) L xs := by
  unfold wpL_law
  exact gb_cell hL 0 (by decide) (fun p => gb_cell hL 1 (by decide) (fun q => gb_cell hL 2 (by decide) (fun r => gb_cell hL 3 (by decide) (fun s => ⟨4, 133, by decide, by decide, gb_lawOf rfl p q r s⟩))))
end
