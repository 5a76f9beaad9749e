section
/-! the class's private words, as plain functions of longs -/
def pc_right (p : Int64) : Int64 := (p &&& 9187201950435737471) <<< ((1 : Int32).toInt64 &&& 63)
def pc_left (p : Int64) : Int64 := ((p &&& (-72340172838076674)).toUInt64 >>> ((1 : Int32).toInt64.toUInt64 &&& Int64.toUInt64 63)).toInt64
def pc_wide (p : Int64) : Int64 := (p ||| pc_right p) ||| pc_left p
def pc_tall (x z : Int64) : Int64 := (x ||| (z <<< ((8 : Int32).toInt64 &&& 63))) ||| ((z.toUInt64 >>> ((8 : Int32).toInt64.toUInt64 &&& Int64.toUInt64 63)).toInt64)
def pc_grown (p : Int64) (m : Int32) : Int64 := if m = 8 then pc_tall (pc_wide p) (pc_wide p) else pc_tall (pc_wide p) p
/-- one round of a flood -/
def pc_fl (s w : Int64) (m : Int32) : Int64 := pc_grown (s &&& w) m &&& w
/-- the flood stands after one round -/
def pc_flOk (s w : Int64) (m : Int32) : Bool := decide (pc_grown (pc_fl s w m) m &&& w = pc_fl s w m)
def pc_rest (r : Int64) (m : Int32) : Int64 := r &&& (pc_fl (r &&& (-r)) r m ^^^ (-1))
/-- r falls into k pieces, each flooded in one round -/
def pc_p (m : Int32) : Nat → Int64 → Bool
  | 0 => fun r => decide (r = 0)
  | k + 1 => fun r => !decide (r = 0) && (pc_flOk (r &&& (-r)) r m && pc_p m k (pc_rest r m))
theorem pc_p_s {m : Int32} {k : Nat} {r : Int64} (h : pc_p m (k + 1) r = true) : ¬ r = 0 ∧ pc_flOk (r &&& (-r)) r m = true ∧ pc_p m k (pc_rest r m) = true := by
  have h' : (!decide (r = 0) && (pc_flOk (r &&& (-r)) r m && pc_p m k (pc_rest r m))) = true := h
  rw [Bool.and_eq_true, Bool.and_eq_true] at h'
  refine ⟨fun e => ?_, h'.2.1, h'.2.2⟩
  have h0 := h'.1
  rw [decide_eq_true e] at h0
  exact absurd h0 (by decide)
def pc_o1 (p : Int64) : Int64 := p - (((p.toUInt64 >>> ((1 : Int32).toInt64.toUInt64 &&& Int64.toUInt64 63)).toInt64) &&& 6148914691236517205)
def pc_o2 (x : Int64) : Int64 := (x &&& 3689348814741910323) + (((x.toUInt64 >>> ((2 : Int32).toInt64.toUInt64 &&& Int64.toUInt64 63)).toInt64) &&& 3689348814741910323)
def pc_o3 (x : Int64) : Int64 := (x + ((x.toUInt64 >>> ((4 : Int32).toInt64.toUInt64 &&& Int64.toUInt64 63)).toInt64)) &&& 1085102592571150095
def pc_o4 (x : Int64) : Int32 := (((x * 72340172838076673).toUInt64 >>> ((56 : Int32).toInt64.toUInt64 &&& Int64.toUInt64 63)).toInt64).toInt32
def pc_ones (p : Int64) : Int32 := pc_o4 (pc_o3 (pc_o2 (pc_o1 p)))
def pc_edge (o : Int64) : Int32 := (4 * pc_ones o) - (2 * (pc_ones (o &&& pc_right o) + pc_ones (o &&& (o <<< ((8 : Int32).toInt64 &&& 63)))))
def pc_bit (f : Int64) (c : Int32) : Int64 := ((f.toUInt64 >>> (c.toInt64.toUInt64 &&& Int64.toUInt64 63)).toInt64) &&& 1
def pc_cell (c : Int32) : Int64 := (1 : Int64) <<< (c.toInt64 &&& 63)
def pc_low (f : Int64) : Int32 := pc_ones ((f ^^^ (-1)) &&& (f - 1))

section
variable {o : Int64} {a1 : Nat → Int32}

theorem wk_grown {post : Int64 → Prop} {p : Int64} {m : Int32} (h : post (pc_grown p m)) : wpX_grown post (o, a1) p m := by
  unfold pc_grown at h
  refine nm_e (br_c (fun e => ?_) (fun e => ?_))
  · rw [if_pos e] at h
    exact h
  · rw [if_neg e] at h
    exact h

theorem wk_fl_step {post : Int64 → Prop} {w : Int64} {m : Int32} {n : Nat} {s : Int64} {i : Nat} (hi : i < 64)
    (h : wX_flooded_11 post w m o a1 n (pc_grown s m &&& w) (if pc_grown s m &&& w = s then 0 else 1) (nI (i + 1))) :
    wX_flooded_11 post w m o a1 (n + 1) s 1 (nI i) := by
  refine br_f (nI_ge (b := 64) hi (by decide)) (br_f (by decide) (wk_grown (nm_e (br_c (fun e => ?_) (fun e => ?_)))))
  · rw [if_pos e] at h
    exact nm_r (nI_1 i) h
  · rw [if_neg e] at h
    exact nm_r (nI_1 i) h

theorem wk_fl_end {post : Int64 → Prop} {w : Int64} {m : Int32} {n : Nat} {s : Int64} {x : Int32} (h : post s) :
    wX_flooded_11 post w m o a1 (n + 1) s 0 x :=
  br_c (fun _ => h) (fun _ => br_t rfl h)

theorem wk_flooded {post : Int64 → Prop} {s w : Int64} {m : Int32} (h2 : pc_flOk s w m = true) (hp : post (pc_fl s w m)) :
    wpX_flooded post (o, a1) s w m := by
  refine nm_e ⟨4, ?_⟩
  refine wk_fl_step (i := 0) (by decide) ?_
  by_cases e : pc_grown (s &&& w) m &&& w = s &&& w
  · rw [if_pos e]
    exact wk_fl_end hp
  · rw [if_neg e]
    refine wk_fl_step (i := 1) (by decide) ?_
    have h2' : pc_grown (pc_grown (s &&& w) m &&& w) m &&& w = pc_grown (s &&& w) m &&& w := of_decide_eq_true h2
    rw [h2', if_pos rfl]
    exact wk_fl_end hp

theorem wk_p21 {post : Int32 → Prop} {m : Int32} (k : Nat) : ∀ (r : Int64) (j : Nat), j + k < 64 → pc_p m k r = true → post (nI (j + k)) →
    wX_pieces_21 post m o a1 (k + 1) r (nI j) (nI j) := by
  induction k with
  | zero => exact fun r j hj h hp => br_f (nI_ge (b := 64) hj (by decide)) (br_t (of_decide_eq_true h) hp)
  | succ k ih =>
    intro r j hj h hp
    obtain ⟨h0, h1, h2⟩ := pc_p_s h
    rw [show j + (k + 1) = j + 1 + k by omega] at hp
    exact br_f (nI_ge (b := 64) (show j < 64 by omega) (by decide)) (br_f h0 (wk_flooded h1 (nm_e (nm_r (nI_1 j) (nm_r (nI_1 j) (ih _ (j + 1) (by omega) h2 hp))))))

theorem wk_mode4 {post : Int32 → Prop} (h : post 0) : wpX_badMode post (o, a1) 4 := br_t rfl h
theorem wk_mode8 {post : Int32 → Prop} (h : post 0) : wpX_badMode post (o, a1) 8 := br_f (by decide) (br_t rfl h)

theorem wk_pieces4 {post : Int32 → Prop} (k : Nat) (hk : k < 64) (h : pc_p 4 k o = true) (hp : post (nI k)) : wpX_pieces post (o, a1) 4 := by
  unfold wpX_pieces
  dsimp only
  refine wk_mode4 (br_t rfl ⟨k + 1, ?_⟩)
  exact wk_p21 k o 0 (by omega) h (by rw [Nat.zero_add]; exact hp)
theorem wk_pieces8 {post : Int32 → Prop} (k : Nat) (hk : k < 64) (h : pc_p 8 k o = true) (hp : post (nI k)) : wpX_pieces post (o, a1) 8 := by
  unfold wpX_pieces
  dsimp only
  refine wk_mode8 (br_t rfl ⟨k + 1, ?_⟩)
  exact wk_p21 k o 0 (by omega) h (by rw [Nat.zero_add]; exact hp)

theorem wk_ones {post : Int32 → Prop} {p : Int64} (h : post (pc_ones p)) : wpX_ones post (o, a1) p := nm_e (nm_e (nm_e h))

theorem wk_edge {post : Int32 → Prop} (h : post (pc_edge o)) : wpX_edge post (o, a1) := by
  refine nm_e (nm_e ?_)
  refine wk_ones ?_
  refine wk_ones ?_
  refine nm_e ?_
  refine wk_ones ?_
  exact h

theorem wk_badCell {post : Int32 → Prop} {c : Nat} (hc : c < 64) (h : post 0) : wpX_badCell post (o, a1) (nI c) :=
  br_f (nI_pos (by omega)) (br_t (nI_lt (b := 64) hc (by decide)) h)

theorem wk_turn {post : Int32 → St2 → Prop} {c : Nat} (hc : c < 64) (h : ∀ r, post r (o ^^^ pc_cell (nI c), a1)) : wpX_turn post (o, a1) (nI c) := by
  unfold wpX_turn
  dsimp only
  exact wk_badCell hc (br_t rfl (nm_e (h _)))

theorem wk_off {post : Int32 → Prop} {c : Nat} (hc : c < 64) (hb : pc_bit o (nI c) = 0) (h : post 1) : wpX_isOff post (o, a1) (nI c) := by
  unfold wpX_isOff
  dsimp only
  exact wk_badCell hc (br_t rfl (br_t hb h))
theorem wk_on {post : Int32 → Prop} {c : Nat} (hc : c < 64) (hb : ¬ pc_bit o (nI c) = 0) (h : post 0) : wpX_isOff post (o, a1) (nI c) := by
  unfold wpX_isOff
  dsimp only
  exact wk_badCell hc (br_t rfl (br_f hb h))

theorem wk_way_off {post : Int32 → Prop} {a b : Nat} (ha : a < 64) (h1 : pc_bit o (nI a) = 0) (hp : post (-4)) : wpX_way post (o, a1) 8 (nI a) (nI b) := by
  unfold wpX_way
  dsimp only
  exact wk_mode8 (br_t rfl (wk_off ha h1 (br_f (by decide) hp)))

theorem wk_way_one {post : Int32 → Prop} {a b : Nat} (ha : a < 64) (hb : b < 64) (h1 : ¬ pc_bit o (nI a) = 0) (h2 : ¬ pc_bit o (nI b) = 0)
    (h3 : ¬ pc_bit (pc_cell (nI a)) (nI b) = 1) (h4 : pc_bit (pc_grown (pc_cell (nI a)) 8 &&& o) (nI b) = 1) (hp : post 1) :
    wpX_way post (o, a1) 8 (nI a) (nI b) := by
  unfold wpX_way
  dsimp only
  refine wk_mode8 (br_t rfl (wk_on ha h1 (br_t rfl (wk_on hb h2 (br_t rfl (nm_e ⟨2, ?_⟩))))))
  refine br_f (by decide) (br_f h3 (wk_grown (nm_e (nm_e ?_))))
  exact br_f (by decide) (br_t h4 hp)

theorem wk_way_none {post : Int32 → Prop} {a b : Nat} (ha : a < 64) (hb : b < 64) (h1 : ¬ pc_bit o (nI a) = 0) (h2 : ¬ pc_bit o (nI b) = 0)
    (h3 : ¬ pc_bit (pc_cell (nI a)) (nI b) = 1) (h4 : pc_grown (pc_cell (nI a)) 8 &&& o = pc_cell (nI a)) (hp : post (-4)) :
    wpX_way post (o, a1) 8 (nI a) (nI b) := by
  unfold wpX_way
  dsimp only
  refine wk_mode8 (br_t rfl (wk_on ha h1 (br_t rfl (wk_on hb h2 (br_t rfl (nm_e ?_))))))
  exact pk_loop (σ := Unit) (fun n i _ => wX_way_37 post 8 (nI b) o a1 n (pc_cell (nI a)) (nI i)) (fun _ _ => True) 64 0 () (by omega) trivial
    (fun n _ _ => pk_le 64 64 (fun _ => hp) (fun z => absurd z (by omega)))
    (fun n i _ hi _ hw => pk_le 64 i (fun z => absurd z (by omega)) (fun _ => br_f h3 (wk_grown (nm_r h4 (nm_r (nI_1 i) (hw () trivial))))))

theorem wk_piece_off {post : Int32 → Prop} {b : Nat} (hb : b < 64) (h1 : pc_bit o (nI b) = 0) (hp : post (-4)) : wpX_piece post (o, a1) 8 (nI b) := by
  unfold wpX_piece
  dsimp only
  exact wk_mode8 (br_t rfl (wk_off hb h1 (br_f (by decide) hp)))

theorem wk_piece_on {post : Int32 → Prop} {b : Nat} (hb : b < 64) (h1 : ¬ pc_bit o (nI b) = 0) (h2 : pc_flOk (pc_cell (nI b)) o 8 = true)
    (hp : post (pc_low (pc_fl (pc_cell (nI b)) o 8))) : wpX_piece post (o, a1) 8 (nI b) := by
  unfold wpX_piece
  dsimp only
  refine wk_mode8 (br_t rfl (wk_on hb h1 (br_t rfl (wk_flooded h2 ?_))))
  unfold wpX_lowest
  dsimp only
  exact wk_ones hp

theorem wk_grow {post : Int32 → St2 → Prop} (hp : post (pc_ones (o ^^^ pc_grown o 4)) (pc_grown o 4, a1)) : wpX_grow post (o, a1) 4 := by
  unfold wpX_grow
  dsimp only
  refine wk_mode4 (br_t rfl (wk_grown ?_))
  unfold wpX_change
  dsimp only
  exact wk_ones hp

theorem wk_cells {post : Int32 → Prop} (hp : post (pc_ones o)) : wpX_cells post (o, a1) := by
  unfold wpX_cells
  dsimp only
  exact wk_ones hp
end
end
section
/-! what the law checks, behind the calls -/
section
variable {post : Int32 → St0 → Prop} {mc ms kc ks : Nat} {x4 x5 x6 x7 x8 x9 x10 x11 x14 z0 : Int32}
theorem tl_same (h5 : x5 = 0) (h6 : x6 = 0) (h7 : x7 = 0) (h8 : x8 = -4) (h9 : x9 = -4) (h11 : x11 = 0) (h10 : ¬ 8 < x10) (hp : post 1 ()) :
    wL_lawOf_146 post mc ms x4 x5 x6 x7 x8 x9 x10 x11 x14 z0 1 kc ks :=
  br_f (by decide) (br_t h5 (br_f (by decide) (br_t h6 (br_f (by decide) (br_t h7 (br_f (by decide) (br_t h8 (br_f (by decide) (br_t h9 (br_f (by decide) (br_t h11 (br_f h10 hp))))))))))))
theorem tl_277 {w : Int32} (h9 : x9 = w) (h11 : x11 = x10 + 2) (h10 : ¬ 8 < x10) (hp : post 1 ()) :
    wL_lawOf_277 post mc ms x10 x11 0 w x9 kc ks :=
  br_t h9 (br_t rfl (br_t h11 (br_f h10 hp)))
theorem tl_249 {w : Int32} (h8 : x8 = w) (h9 : x9 = if 3 ≤ x14 then x4 else z0) (h11 : x11 = x10 + 2) (h10 : ¬ 8 < x10) (hp : post 1 ()) :
    wL_lawOf_249 post mc ms x4 x9 x10 x11 x14 z0 0 w x8 kc ks :=
  br_t h8 (br_t rfl (br_c (fun e => tl_277 (by rw [h9, if_pos e]) h11 h10 hp) (fun e => tl_277 (by rw [h9, if_neg e]) h11 h10 hp)))
theorem tl_222 {w : Int32} (h7 : x7 = w) (h8 : x8 = if 3 ≤ x14 then -4 else 1) (h9 : x9 = if 3 ≤ x14 then x4 else z0) (h11 : x11 = x10 + 2) (h10 : ¬ 8 < x10) (hp : post 1 ()) :
    wL_lawOf_222 post mc ms x4 x8 x9 x10 x11 x14 z0 0 w x7 kc ks :=
  br_t h7 (br_t rfl (br_c (fun e => tl_249 (by rw [h8, if_pos e]) h9 h11 h10 hp) (fun e => tl_249 (by rw [h8, if_neg e]) h9 h11 h10 hp)))
theorem tl_195 {w : Int32} (h6 : x6 = w) (h7 : x7 = if x14 = 1 then 6 else 8) (h8 : x8 = if 3 ≤ x14 then -4 else 1) (h9 : x9 = if 3 ≤ x14 then x4 else z0) (h11 : x11 = x10 + 2) (h10 : ¬ 8 < x10) (hp : post 1 ()) :
    wL_lawOf_195 post mc ms x4 x7 x8 x9 x10 x11 x14 z0 0 w x6 kc ks :=
  br_t h6 (br_t rfl (br_c (fun e => tl_222 (by rw [h7, if_pos e]) h8 h9 h11 h10 hp) (fun e => tl_222 (by rw [h7, if_neg e]) h8 h9 h11 h10 hp)))
theorem tl_170 {w : Int32} (h5 : x5 = w) (h6 : x6 = if 3 ≤ x14 then 2 else 1) (h7 : x7 = if x14 = 1 then 6 else 8) (h8 : x8 = if 3 ≤ x14 then -4 else 1) (h9 : x9 = if 3 ≤ x14 then x4 else z0) (h11 : x11 = x10 + 2) (h10 : ¬ 8 < x10) (hp : post 1 ()) :
    wL_lawOf_170 post mc ms x4 x6 x7 x8 x9 x10 x11 x14 z0 0 w x5 kc ks :=
  br_t h5 (br_t rfl (br_c (fun e => tl_195 (by rw [h6, if_pos e]) h7 h8 h9 h11 h10 hp) (fun e => tl_195 (by rw [h6, if_neg e]) h7 h8 h9 h11 h10 hp)))
theorem tl_146 (h5 : x5 = if x14 = 1 then 1 else 2) (h6 : x6 = if 3 ≤ x14 then 2 else 1) (h7 : x7 = if x14 = 1 then 6 else 8) (h8 : x8 = if 3 ≤ x14 then -4 else 1) (h9 : x9 = if 3 ≤ x14 then x4 else z0) (h11 : x11 = x10 + 2) (h10 : ¬ 8 < x10) (hp : post 1 ()) :
    wL_lawOf_146 post mc ms x4 x5 x6 x7 x8 x9 x10 x11 x14 z0 0 kc ks :=
  br_t rfl (br_c (fun e => tl_170 (by rw [h5, if_pos e]) h6 h7 h8 h9 h11 h10 hp) (fun e => tl_170 (by rw [h5, if_neg e]) h6 h7 h8 h9 h11 h10 hp))
theorem tl_134s (e : x14 = 0) (h5 : x5 = 0) (h6 : x6 = 0) (h7 : x7 = 0) (h8 : x8 = -4) (h9 : x9 = -4) (h11 : x11 = 0) (h10 : ¬ 8 < x10) (hp : post 1 ()) :
    wL_lawOf_134 post mc ms x4 x5 x6 x7 x8 x9 x10 x11 x14 z0 kc ks :=
  br_t e (tl_same h5 h6 h7 h8 h9 h11 h10 hp)
theorem tl_134 (e : ¬ x14 = 0) (h5 : x5 = if x14 = 1 then 1 else 2) (h6 : x6 = if 3 ≤ x14 then 2 else 1) (h7 : x7 = if x14 = 1 then 6 else 8) (h8 : x8 = if 3 ≤ x14 then -4 else 1) (h9 : x9 = if 3 ≤ x14 then x4 else z0) (h11 : x11 = x10 + 2) (h10 : ¬ 8 < x10) (hp : post 1 ()) :
    wL_lawOf_134 post mc ms x4 x5 x6 x7 x8 x9 x10 x11 x14 z0 kc ks :=
  br_f e (tl_146 h5 h6 h7 h8 h9 h11 h10 hp)
end
end
section
/-! the two cells, 0 ≤ a, b < 64: everything that the walk asks, evaluated -/
def pc_on (a b : Nat) : Int64 := (0 ^^^ pc_cell (nI a)) ^^^ pc_cell (nI b)
def pc_u (a b : Nat) : Int32 := (nI a &&& 7) - (nI b &&& 7)
def pc_v (a b : Nat) : Int32 := (nI a >>> ((3 : Int32) &&& 31)) - (nI b >>> ((3 : Int32) &&& 31))
def pc_far (a b : Nat) : Int32 := (pc_u a b * pc_u a b) + (pc_v a b * pc_v a b)
def pc_four (f : Int32) : Nat := if f = 0 then 0 else if f = 1 then 1 else 2
def pc_eight (f : Int32) : Nat := if f = 0 then 0 else if 3 ≤ f then 2 else 1
/-- the counts of pieces, and the edge -/
def pc_ck1 (o : Int64) (f : Int32) : Bool := pc_p 4 (pc_four f) o && (pc_p 8 (pc_eight f) o && decide (pc_edge o = if f = 0 then 0 else if f = 1 then 6 else 8))
/-- the way, the piece -/
def pc_ck2 (o : Int64) (f x y : Int32) : Bool :=
  if f = 0 then decide (pc_bit o x = 0) && decide (pc_bit o y = 0)
  else !decide (pc_bit o x = 0) && (!decide (pc_bit o y = 0) && (!decide (pc_bit (pc_cell x) y = 1)
    && ((if 3 ≤ f then decide (pc_grown (pc_cell x) 8 &&& o = pc_cell x) else decide (pc_bit (pc_grown (pc_cell x) 8 &&& o) y = 1))
    && (pc_flOk (pc_cell y) o 8 && decide (pc_low (pc_fl (pc_cell y) o 8) = if 3 ≤ f then y else if y ≤ x then y else x)))))
/-- the growth -/
def pc_ck3 (o : Int64) (f : Int32) : Bool :=
  !decide (8 < pc_ones (o ^^^ pc_grown o 4)) && decide (pc_ones (pc_grown o 4) = if f = 0 then 0 else pc_ones (o ^^^ pc_grown o 4) + 2)
theorem ck_1 : ∀ a, a < 64 → ∀ b, b < 64 → pc_ck1 (pc_on a b) (pc_far a b) = true := by decide +kernel
theorem ck_2 : ∀ a, a < 64 → ∀ b, b < 64 → pc_ck2 (pc_on a b) (pc_far a b) (nI a) (nI b) = true := by decide +kernel
theorem ck_3 : ∀ a, a < 64 → ∀ b, b < 64 → pc_ck3 (pc_on a b) (pc_far a b) = true := by decide +kernel
end
section
/-! the join -/
theorem jn_and {x y : Bool} (h : (x && y) = true) : x = true ∧ y = true := by
  rw [Bool.and_eq_true] at h
  exact h
theorem jn_not {p : Prop} {d : Decidable p} (h : (!decide p) = true) : ¬ p := by
  intro e
  rw [decide_eq_true e] at h
  exact absurd h (by decide)
theorem jn_cell {post : Int32 → Prop} (L : Nat) (xs : Nat → Int32) (x : Int32) (k : Nat) (hx : x = nI k) (hk : k < 2) (hL : L ≤ 2) (h : ∀ r, post r) : wpL_cellAt post L xs () x :=
  pk_le L k (fun _ => h _) (fun z => ⟨pk_in k L z hx, h _⟩) rfl hx
theorem jn_calls {post : Int32 → St0 → Prop} (hp : post 1 ()) {mc ms kc ks a b : Nat} (ha : a < 64) (hb : b < 64) (g : Nat → Int32) :
    wpX_pieces (fun r_25 => (wpX_pieces (fun r_26 => (wpX_edge (fun r_27 => (wpX_way (fun r_28 => (wpX_piece (fun r_29 => (wpX_grow (fun r_30 u => match u with | (o2, g2) => (wpX_cells (fun r_35 => (∀ x12_36 : Int32, x12_36 = (nI a &&& 7) - (nI b &&& 7) → (∀ x13_37 : Int32, x13_37 = (nI a >>> ((3 : Int32) &&& 31)) - (nI b >>> ((3 : Int32) &&& 31)) → (∀ x14_38 : Int32, x14_38 = (x12_36 * x12_36) + (x13_37 * x13_37) → (((nI b ≤ nI a → (wL_lawOf_134 post mc ms (nI b) r_25 r_26 r_27 r_28 r_29 r_30 r_35 x14_38 (nI b) kc ks)) ∧ (¬ nI b ≤ nI a → (wL_lawOf_134 post mc ms (nI b) r_25 r_26 r_27 r_28 r_29 r_30 r_35 x14_38 (nI a) kc ks)))))))) (o2, g2))) (pc_on a b, g) 4)) (pc_on a b, g) 8 (nI b))) (pc_on a b, g) 8 (nI a) (nI b))) (pc_on a b, g))) (pc_on a b, g) 8)) (pc_on a b, g) 4 := by
  obtain ⟨c1, c23⟩ := jn_and (ck_1 a ha b hb)
  obtain ⟨c2, c3⟩ := jn_and c23
  have c3 := of_decide_eq_true c3
  obtain ⟨d1, d2⟩ := jn_and (ck_3 a ha b hb)
  have d1 := jn_not d1
  have d2 := of_decide_eq_true d2
  have w := ck_2 a ha b hb
  unfold pc_ck2 at w
  have l4 : pc_four (pc_far a b) < 64 := by
    unfold pc_four
    split
    · omega
    · split <;> omega
  have l8 : pc_eight (pc_far a b) < 64 := by
    unfold pc_eight
    split
    · omega
    · split <;> omega
  refine wk_pieces4 _ l4 c1 (wk_pieces8 _ l8 c2 (wk_edge ?_))
  by_cases e : pc_far a b = 0
  · rw [if_pos e] at w c3 d2
    obtain ⟨w1, w2⟩ := jn_and w
    have k4 : nI (pc_four (pc_far a b)) = 0 := by
      unfold pc_four
      rw [if_pos e]
      rfl
    have k8 : nI (pc_eight (pc_far a b)) = 0 := by
      unfold pc_eight
      rw [if_pos e]
      rfl
    refine wk_way_off ha (of_decide_eq_true w1) (wk_piece_off hb (of_decide_eq_true w2) (wk_grow (wk_cells (nm_e (nm_e (nm_e ?_))))))
    exact br_c (fun _ => tl_134s e k4 k8 c3 rfl rfl d2 d1 hp) (fun _ => tl_134s e k4 k8 c3 rfl rfl d2 d1 hp)
  · rw [if_neg e] at w c3 d2
    obtain ⟨w1, w⟩ := jn_and w
    obtain ⟨w2, w⟩ := jn_and w
    obtain ⟨w3, w⟩ := jn_and w
    obtain ⟨w4, w⟩ := jn_and w
    obtain ⟨w5, w⟩ := jn_and w
    have w6 := of_decide_eq_true w
    have k4 : nI (pc_four (pc_far a b)) = if pc_far a b = 1 then 1 else 2 := by
      unfold pc_four
      rw [if_neg e]
      split <;> rfl
    have k8 : nI (pc_eight (pc_far a b)) = if 3 ≤ pc_far a b then 2 else 1 := by
      unfold pc_eight
      rw [if_neg e]
      split <;> rfl
    have fin : ∀ r : Int32, r = (if 3 ≤ pc_far a b then -4 else 1) → wpX_piece (fun r_29 => (wpX_grow (fun r_30 u => match u with | (o2, g2) => (wpX_cells (fun r_35 => (∀ x12_36 : Int32, x12_36 = (nI a &&& 7) - (nI b &&& 7) → (∀ x13_37 : Int32, x13_37 = (nI a >>> ((3 : Int32) &&& 31)) - (nI b >>> ((3 : Int32) &&& 31)) → (∀ x14_38 : Int32, x14_38 = (x12_36 * x12_36) + (x13_37 * x13_37) → (((nI b ≤ nI a → (wL_lawOf_134 post mc ms (nI b) (nI (pc_four (pc_far a b))) (nI (pc_eight (pc_far a b))) (pc_edge (pc_on a b)) r r_29 r_30 r_35 x14_38 (nI b) kc ks)) ∧ (¬ nI b ≤ nI a → (wL_lawOf_134 post mc ms (nI b) (nI (pc_four (pc_far a b))) (nI (pc_eight (pc_far a b))) (pc_edge (pc_on a b)) r r_29 r_30 r_35 x14_38 (nI a) kc ks)))))))) (o2, g2))) (pc_on a b, g) 4)) (pc_on a b, g) 8 (nI b) := by
      intro r hr
      refine wk_piece_on hb (jn_not w2) w5 (wk_grow (wk_cells (nm_e (nm_e (nm_e ?_)))))
      refine br_c (fun z => tl_134 e k4 k8 c3 hr ?_ d2 d1 hp) (fun z => tl_134 e k4 k8 c3 hr ?_ d2 d1 hp)
      · rw [if_pos z] at w6
        exact w6
      · rw [if_neg z] at w6
        exact w6
    by_cases f : 3 ≤ pc_far a b
    · rw [if_pos f] at w4
      exact wk_way_none ha hb (jn_not w1) (jn_not w2) (jn_not w3) (of_decide_eq_true w4) (fin (-4) (by rw [if_pos f]))
    · rw [if_neg f] at w4
      exact wk_way_one ha hb (jn_not w1) (jn_not w2) (jn_not w3) (of_decide_eq_true w4) (fin 1 (by rw [if_neg f]))
theorem jn_lawOf {post : Int32 → St0 → Prop} (hp : post 1 ()) (p q : Int32) : wpL_lawOf post 56 880 () p q := by
  obtain ⟨a, ha, ea⟩ := pk_andE p (m := 63) 6 (by decide)
  obtain ⟨b, hb, eb⟩ := pk_andE q (m := 63) 6 (by decide)
  refine ⟨by decide, by decide, 1, 100, by decide, by decide, by decide, by decide, nm_r ea (nm_r eb ?_)⟩
  refine wk_turn ha (fun r => ?_)
  refine wk_turn hb (fun r' => ?_)
  exact jn_calls hp ha hb _
theorem i_vc (xs : Nat → Int32) (L : Nat) (hL : L ≤ 2) : wpL_law (fun r => r = 1) L xs :=
  jn_cell L xs 0 0 rfl (by omega) hL (fun r => jn_cell L xs 1 1 rfl (by omega) hL (fun r' => ⟨56, 880, by omega, by omega, jn_lawOf rfl r r'⟩))
end
