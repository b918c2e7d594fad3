section
/-! ===== plain facts about ints ===== -/
theorem ml_one {x : Int32} (h : ¬ x < 1) (g : ¬ (1 : Int32) < x) : x = 1 := by
  apply Int32.toInt_inj.mp
  rw [Int32.lt_iff_toInt_lt] at h g
  have e : (1 : Int32).toInt = 1 := by decide
  omega
theorem ml_zero {x : Int32} (h : ¬ x < 0) (g : x < 1) : x = 0 := by
  apply Int32.toInt_inj.mp
  rw [Int32.lt_iff_toInt_lt] at h g
  have e : (1 : Int32).toInt = 1 := by decide
  have e0 : (0 : Int32).toInt = 0 := by decide
  omega
/-! ===== the methods, one lemma each ===== -/
theorem ml_cell {post : Int32 → Prop} {L : Nat} {xs : Nat → Int32} (hL : L ≤ 4) (k : Nat) (hk : k ≤ 3) (h : ∀ r, post r) : wpL_cellAt post L xs () (nI k) :=
  pk_le L k (fun _ => h _) (fun z => ⟨pk_in k L z, h _⟩)
theorem ml_mix {post : Int32 → Prop} {v k : Int32} (h : ∀ r, post r) : wpX_mix post () v k :=
  fun _ _ _ _ => h _
/-- the first append answers 1: one entry, the other fields and arrays as they were -/
theorem ml_append {post : Int32 → St2 → Prop} {c f v : Int32} {a1 a2 a3 : Nat → Int32} (h : ∀ a, post 1 (1, c, f, a, a2, a3)) : wpX_append post (0, c, f, a1, a2, a3) v :=
  br_t (by decide) (ml_mix (fun _ => ⟨vp_in_iff.mpr (by decide), fun a _ => nm_r (e' := 1) (by decide) ⟨1, br_f (by decide) (br_f (by decide) (h a))⟩⟩))
/-- the first take answers 1: the hand holds the value alone -/
theorem ml_take {post : Int32 → St2 → Prop} {n f v : Int32} {a1 a2 a3 : Nat → Int32} (h : ∀ a, post 1 (n, 1, f, a1, a, a3)) : wpX_take post (n, 0, f, a1, a2, a3) v :=
  br_t (by decide) ⟨vp_in_iff.mpr (by decide), fun a _ => nm_r (e' := 1) (by decide) (h a)⟩
/-- the path of entry 0 in a log of one entry: the empty hand -/
theorem ml_path_ok {post : Int32 → St2 → Prop} {c f : Int32} {a1 a2 a3 : Nat → Int32} (h : post 0 (1, 0, 0, a1, a2, a3)) : wpX_path post (1, c, f, a1, a2, a3) 0 1 :=
  br_f (by decide) (br_f (by decide) (br_f (by decide) (br_t (by decide) ⟨1, br_f (by decide) (br_t (by decide) ⟨1, br_t (by decide) h⟩)⟩)))
/-- any other path in a log of one entry is refused, and nothing changes -/
theorem ml_path_no {post : Int32 → St2 → Prop} {c f p0 p1 : Int32} {a1 a2 a3 : Nat → Int32} (hn : ¬ (p1 = 1 ∧ p0 = 0)) (h : post (-1) (1, c, f, a1, a2, a3)) : wpX_path post (1, c, f, a1, a2, a3) p0 p1 :=
  br_c (fun _ => h) (fun g => br_c (fun _ => h) (fun g' => br_c (fun _ => h) (fun k => br_c (fun k' => absurd ⟨ml_one g g', ml_zero k (by rw [ml_one g g'] at k'; exact k')⟩ hn) (fun _ => h))))
/-- alter: at place 0 of a hand of one; anywhere else, and in an empty hand, refused -/
theorem ml_alter_in {post : Int32 → St2 → Prop} {n f v : Int32} {a1 a2 a3 : Nat → Int32} (h : post 0 (n, 1, f, a1, upd a2 0 v, a3)) : wpX_alter post (n, 1, f, a1, a2, a3) 0 v :=
  br_f (by decide) (br_t (by decide) ⟨vp_in_iff.mpr (by decide), nm_r (e' := upd a2 0 v) rfl h⟩)
theorem ml_alter_one {post : Int32 → St2 → Prop} {n f p v : Int32} {a1 a2 a3 : Nat → Int32} (hp : ¬ p = 0) (h : post (-1) (n, 1, f, a1, a2, a3)) : wpX_alter post (n, 1, f, a1, a2, a3) p v :=
  br_c (fun _ => h) (fun g => br_c (fun g' => absurd (ml_zero g g') hp) (fun _ => h))
theorem ml_alter_none {post : Int32 → St2 → Prop} {n f p v : Int32} {a1 a2 a3 : Nat → Int32} (h : post (-1) (n, 0, f, a1, a2, a3)) : wpX_alter post (n, 0, f, a1, a2, a3) p v :=
  br_c (fun _ => h) (fun g => br_f g h)
/-- hand: likewise -/
theorem ml_hand_in {post : Int32 → Prop} {n f : Int32} {a1 a2 a3 : Nat → Int32} (h : post (a2 0)) : wpX_hand post (n, 1, f, a1, a2, a3) 0 :=
  br_f (by decide) (br_t (by decide) ⟨vp_in_iff.mpr (by decide), h⟩)
theorem ml_hand_one {post : Int32 → Prop} {n f p : Int32} {a1 a2 a3 : Nat → Int32} (hp : ¬ p = 0) (h : post 0) : wpX_hand post (n, 1, f, a1, a2, a3) p :=
  br_c (fun _ => h) (fun g => br_c (fun g' => absurd (ml_zero g g') hp) (fun _ => h))
theorem ml_hand_none {post : Int32 → Prop} {n f p : Int32} {a1 a2 a3 : Nat → Int32} (h : post 0) : wpX_hand post (n, 0, f, a1, a2, a3) p :=
  br_c (fun _ => h) (fun g => br_f g h)
end
section
/-! ===== the law behind path ===== -/
/-- path was answered: the hand is empty -/
theorem ml_64_ok {mc ms kc ks : Nat} {p v n f : Int32} {a1 a2 a3 : Nat → Int32} : wL_lawOf_64 (fun r _ => r = 1) mc ms p v 1 0 0 kc ks n 0 f a1 a2 a3 :=
  br_t rfl (br_f (by decide) (br_t rfl (ml_alter_none (br_f (by decide) (br_t rfl (ml_hand_none (br_f (by decide) (br_t rfl rfl))))))))
/-- path was refused: the hand holds one number -/
theorem ml_64_no {mc ms kc ks : Nat} {p v n f : Int32} {a1 a2 a3 : Nat → Int32} : wL_lawOf_64 (fun r _ => r = 1) mc ms p v 0 (-1) (-1) kc ks n 1 f a1 a2 a3 := by
  by_cases hp : p = 0
  · subst hp
    exact br_t rfl (br_t rfl (br_t rfl (ml_alter_in (br_t rfl (br_t rfl (br_t rfl (ml_hand_in (br_t rfl (br_t rfl (br_t pk_us rfl))))))))))
  · exact br_t rfl (br_t rfl (br_t rfl (ml_alter_one hp (br_t rfl (br_f hp (br_t rfl (ml_hand_one hp (br_t rfl (br_f hp (br_t rfl rfl))))))))))
theorem ml_44 {mc ms kc ks : Nat} {p0 p1 p v f : Int32} {a1 a2 a3 : Nat → Int32} (hn : ¬ (p1 = 1 ∧ p0 = 0)) : wL_lawOf_44 (fun r _ => r = 1) mc ms p0 p1 p v kc ks 1 1 f a1 a2 a3 := by
  unfold wL_lawOf_44 wL_lawOf_45
  exact ml_path_no hn (br_t rfl ml_64_no)
theorem ml_45 {mc ms kc ks : Nat} {p v f : Int32} {a1 a2 a3 : Nat → Int32} : wL_lawOf_45 (fun r _ => r = 1) mc ms 0 1 p v 1 kc ks 1 1 f a1 a2 a3 :=
  ml_path_ok (br_f (by decide) ml_64_ok)
theorem ml_lawOf (p0 p1 p2 p3 : Int32) : wpL_lawOf (fun r _ => r = 1) 4 118 () p0 p1 p2 p3 := by
  refine ⟨by decide, by decide, 3, 112, by decide, by decide, ?_⟩
  refine ⟨by decide, by decide, by decide, by decide, by decide, by decide, ?_⟩
  refine ml_append (fun b1 => br_t rfl (ml_take (fun b2 => br_t rfl (br_c (fun h1 => br_c (fun h0 => ?_) (fun h0 => ?_)) (fun h1 => ?_)))))
  · subst h1 h0
    exact ml_45
  · exact ml_44 (fun z => h0 z.2)
  · exact ml_44 (fun z => h1 z.1)
theorem i_vc (xs : Nat → Int32) (L : Nat) (hL : L ≤ 4) : wpL_law (fun r => r = 1) L xs :=
  ml_cell hL 0 (by decide) (fun r1 => ml_cell hL 1 (by decide) (fun r2 => ml_cell hL 2 (by decide) (fun r3 => ml_cell hL 3 (by decide) (fun r4 => ⟨4, 118, by decide, by decide, ml_lawOf r1 r2 r3 r4⟩))))
end
