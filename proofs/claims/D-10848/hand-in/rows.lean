section
/-! one lemma a method; the states are tuples of five ints and ten arrays -/
theorem bv_cell {post : Int32 → Prop} {L : Nat} {xs : Nat → Int32} {u : St0} {x : Int32} (k : Nat) (hL : L ≤ 6) (hk : k < 6) (hx : x = nI k) (H : ∀ r, post r) : wpL_cellAt post L xs u x := by
  subst hx
  exact pk_le L k (fun _ => H 0) (fun z => ⟨pk_in k L z, H _⟩)
theorem bv_c0 : (0 : Int32).toNatClampNeg = 0 := by decide
theorem bv_nb : vp_nar .boolean 0 = 0 := by decide
/-- a put, while nothing is typed -/
theorem bv_put0 {post : Int32 → St2 → Prop} {f1 f2 f3 f4 : Int32} {a1 a2 a3 a4 a5 a6 a7 a8 a9 a10 : Nat → Int32} {p : Int32} (H : post (-3) (0, f1, f2, f3, f4, a1, a2, a3, a4, a5, a6, a7, a8, a9, a10)) : wpX_put post (0, f1, f2, f3, f4, a1, a2, a3, a4, a5, a6, a7, a8, a9, a10) p :=
  br_t rfl H
/-- a letter that is none -/
theorem bv_typeBad {post : Int32 → St2 → Prop} {f0 f1 f2 f3 f4 : Int32} {a1 a2 a3 a4 a5 a6 a7 a8 a9 a10 : Nat → Int32} {p : Int32} (hp : p < 0 ∨ 5 < p) (H : post (-1) (f0, f1, f2, f3, f4, a1, a2, a3, a4, a5, a6, a7, a8, a9, a10)) : wpX_type post (f0, f1, f2, f3, f4, a1, a2, a3, a4, a5, a6, a7, a8, a9, a10) p :=
  br_c (fun _ => H) (fun g => br_f (fun h5 => hp.elim g (fun h => Int32.not_le.mpr h h5)) H)
/-- the first letter -/
theorem bv_typeGood {post : Int32 → St2 → Prop} {f1 f2 f3 f4 : Int32} {a1 a2 a3 a4 a5 a6 a7 a8 a9 a10 : Nat → Int32} {p : Int32} (h0 : ¬ p < 0) (h5 : p ≤ 5) (H : post 1 (1, f1 + (p + 1) * 343, f2, f3, f4, a1, a2, a3, a4, a5, a6, a7, a8, a9, a10)) : wpX_type post (0, f1, f2, f3, f4, a1, a2, a3, a4, a5, a6, a7, a8, a9, a10) p :=
  br_f h0 (br_t h5 (br_t (by decide) (br_f (by decide) (br_f (by decide) (br_t rfl (nm_e (nm_r (e' := 1) (by decide) H)))))))
/-- the first version, of a key where the directory is empty -/
theorem bv_add {post : Int32 → St2 → Prop} {f0 f1 : Int32} {a1 a2 a3 a4 a5 a6 a7 a8 a9 a10 : Nat → Int32} {k c : Int32} (h3 : a3 0 = 0)
    (H : post 0 (f0, f1, 1, 1, 1, upd a1 0 k, upd a2 0 0, upd a3 0 1, upd a4 0 0, upd a5 0 c, upd a6 0 0, upd a7 0 (-1), a8, a9, a10)) : wpX_addVersion post (f0, f1, 0, 0, 0, a1, a2, a3, a4, a5, a6, a7, a8, a9, a10) k c 0 := by
  unfold wpX_addVersion
  dsimp only
  refine ⟨1, ?_⟩
  refine br_f (by decide) ⟨pk_in 0 24 (by omega), ?_⟩
  rw [bv_c0]
  refine br_t h3 ⟨pk_in 0 24 (by omega), nm_e ⟨pk_in 0 24 (by omega), nm_e ⟨pk_in 0 24 (by omega), nm_e ⟨pk_in 0 24 (by omega), nm_r (e' := upd a6 0 0) (by rw [bv_nb, bv_c0]) ?_⟩⟩⟩⟩
  refine nm_r (e' := 1) (by decide) (nm_r (e' := 1) (by decide) ?_)
  refine ⟨1, br_t (by decide) (br_t (by decide) ⟨1, br_t (by decide) ⟨pk_in 0 24 (by omega), nm_r (e' := upd a1 0 k) (by rw [bv_c0]) (nm_r (e' := 1) (by decide) ⟨pk_in 0 24 (by omega), nm_r (e' := upd a7 0 (-1)) (by rw [bv_c0]) ?_⟩)⟩⟩)⟩
  refine ⟨pk_in 0 24 (by omega), nm_r (e' := upd a2 0 0) (by rw [bv_c0]) ⟨pk_in 0 24 (by omega), ?_⟩⟩
  rw [bv_c0, pk_us]
  exact H
theorem bv_putGood {post : Int32 → St2 → Prop} {k : Int32} {a1 a2 a3 a4 a5 a6 a7 a8 a9 a10 : Nat → Int32} {c : Int32} (h3 : a3 0 = 0)
    (H : post 0 (1, k, 1, 1, 1, upd a1 0 k, upd a2 0 0, upd a3 0 1, upd a4 0 0, upd a5 0 c, upd a6 0 0, upd a7 0 (-1), a8, a9, a10)) : wpX_put post (1, k, 0, 0, 0, a1, a2, a3, a4, a5, a6, a7, a8, a9, a10) c :=
  br_f (by decide) (br_t (by decide) (bv_add h3 H))
/-- no version of the number asked for -/
theorem bv_slotN {post : Int32 → Prop} {f0 f1 f2 f3 f4 : Int32} {a1 a2 a3 a4 a5 a6 a7 a8 a9 a10 : Nat → Int32} {x : Int32} (h : ∀ j, j < 24 → a3 j = 0 ∨ ¬ a4 j = x) (H : post (-1)) : wpX_slotOf post (f0, f1, f2, f3, f4, a1, a2, a3, a4, a5, a6, a7, a8, a9, a10) x :=
  pk_loop (σ := Unit) (fun n i _ => wX_slotOf_2 post x f0 f1 f2 f3 f4 a1 a2 a3 a4 a5 a6 a7 a8 a9 a10 n (nI i)) (fun _ _ => True) 24 0 () (by omega) trivial
    (fun n _ _ => pk_le 24 24 (fun _ => H) (fun z => absurd z (by omega)))
    (fun n i _ hi _ hw => pk_le 24 i (fun z => absurd z (by omega)) (fun _ => ⟨pk_in i 24 hi, br_c (fun _ => nm_r (nI_1 i) (hw () trivial)) (fun g => ⟨pk_in i 24 hi, br_f (by
      rw [nI_clamp (show i < 2 ^ 31 by omega)] at g ⊢
      exact (h i hi).resolve_left g) (nm_r (nI_1 i) (hw () trivial))⟩)⟩))
theorem bv_slot0 {post : Int32 → Prop} {f0 f1 f2 f3 f4 : Int32} {a1 a2 a3 a4 a5 a6 a7 a8 a9 a10 : Nat → Int32} {x : Int32} (h3 : ¬ a3 0 = 0) (h4 : a4 0 = x) (H : post 0) : wpX_slotOf post (f0, f1, f2, f3, f4, a1, a2, a3, a4, a5, a6, a7, a8, a9, a10) x :=
  ⟨1, br_f (by decide) ⟨pk_in 0 24 (by omega), br_f (by rw [bv_c0]; exact h3) ⟨pk_in 0 24 (by omega), br_t (by rw [bv_c0]; exact h4) H⟩⟩⟩
theorem bv_contentN {post : Int32 → Prop} {f0 f1 f2 f3 f4 : Int32} {a1 a2 a3 a4 a5 a6 a7 a8 a9 a10 : Nat → Int32} {x : Int32} (h : ∀ j, j < 24 → a3 j = 0 ∨ ¬ a4 j = x) (H : post 0) : wpX_content post (f0, f1, f2, f3, f4, a1, a2, a3, a4, a5, a6, a7, a8, a9, a10) x := by
  unfold wpX_content
  dsimp only
  exact bv_slotN h (br_t (by decide) H)
theorem bv_content0 {post : Int32 → Prop} {f0 f1 f2 f3 f4 : Int32} {a1 a2 a3 a4 a5 a6 a7 a8 a9 a10 : Nat → Int32} {x : Int32} (h3 : ¬ a3 0 = 0) (h4 : a4 0 = x) (h6 : a6 0 = 0) (H : post (a5 0)) : wpX_content post (f0, f1, f2, f3, f4, a1, a2, a3, a4, a5, a6, a7, a8, a9, a10) x := by
  unfold wpX_content
  dsimp only
  refine bv_slot0 h3 h4 ?_
  rw [bv_c0]
  exact br_f (by decide) ⟨pk_in 0 24 (by omega), br_t h6 ⟨pk_in 0 24 (by omega), H⟩⟩
theorem bv_begin0 {post : Int32 → St2 → Prop} {f1 f2 f3 f4 : Int32} {a1 a2 a3 a4 a5 a6 a7 a8 a9 a10 : Nat → Int32} (H : post (-3) (0, f1, f2, f3, f4, a1, a2, a3, a4, a5, a6, a7, a8, a9, a10)) : wpX_begin post (0, f1, f2, f3, f4, a1, a2, a3, a4, a5, a6, a7, a8, a9, a10) :=
  br_t rfl H
theorem bv_beginGood {post : Int32 → St2 → Prop} {f1 f2 f3 f4 : Int32} {a1 a2 a3 a4 a5 a6 a7 a8 a9 a10 : Nat → Int32} (h8 : a8 0 = 0) (H : post 0 (1, f1, f2, f3, f4, a1, a2, a3, a4, a5, a6, a7, upd a8 0 f1, upd a9 0 0, a10)) : wpX_begin post (1, f1, f2, f3, f4, a1, a2, a3, a4, a5, a6, a7, a8, a9, a10) :=
  br_f (by decide) ⟨1, br_f (by decide) ⟨pk_in 0 3 (by omega), br_t (by rw [bv_c0]; exact h8) (br_f (by decide) ⟨pk_in 0 3 (by omega), nm_r (e' := upd a8 0 f1) (by rw [bv_c0]) ⟨pk_in 0 3 (by omega), nm_r (e' := upd a9 0 0) (by rw [bv_c0]) H⟩⟩)⟩⟩
/-- an upload that was not begun -/
theorem bv_noUpN {post : Int32 → Prop} {f0 f1 f2 f3 f4 : Int32} {a1 a2 a3 a4 a5 a6 a7 a8 a9 a10 : Nat → Int32} {x : Int32} (h : ∀ j, j < 3 → x = nI j → a8 j = 0) (H : post 1) : wpX_noUpload post (f0, f1, f2, f3, f4, a1, a2, a3, a4, a5, a6, a7, a8, a9, a10) x :=
  br_c (fun _ => H) (fun g => br_c (fun _ => H) (fun g2 => by
    obtain ⟨j, hj, e⟩ := nI_of2 (M := 2) (n := 2) (by decide) g (Int32.not_lt.mp g2)
    refine ⟨pk_in j 3 (by omega) e, br_t ?_ H⟩
    rw [pk_cl j e]
    exact h j (by omega) e))
/-- the bits of a set, counted from the lowest -/
def bv_sum (x : Int32) : Nat → Int32
  | 0 => 0
  | i + 1 => bv_sum x i + ((x >>> (nI i &&& 31)) &&& 1)
theorem bv_bits {post : Int32 → Prop} {u : St0} {x : Int32} (H : post (bv_sum x 8)) : wpX_bits post u x :=
  pk_loop (σ := Unit) (fun n i _ => wX_bits_4 post x n (bv_sum x i) (nI i)) (fun _ _ => True) 8 0 () (by omega) trivial
    (fun n _ _ => pk_le 8 8 (fun _ => H) (fun z => absurd z (by omega)))
    (fun n i _ hi _ hw => pk_le 8 i (fun z => absurd z (by omega)) (fun _ => nm_e (nm_r (nI_1 i) (hw () trivial))))
theorem bv_one : ∀ k, k < 8 → bv_sum ((0 : Int32) ||| ((1 : Int32) <<< (nI k &&& 31))) 8 = 1 := by decide +kernel
theorem bv_partN {post : Int32 → St2 → Prop} {f0 f1 f2 f3 f4 : Int32} {a1 a2 a3 a4 a5 a6 a7 a8 a9 a10 : Nat → Int32} {x y z : Int32} (h : ∀ j, j < 3 → x = nI j → a8 j = 0) (H : post (-5) (f0, f1, f2, f3, f4, a1, a2, a3, a4, a5, a6, a7, a8, a9, a10)) : wpX_part post (f0, f1, f2, f3, f4, a1, a2, a3, a4, a5, a6, a7, a8, a9, a10) x y z := by
  unfold wpX_part
  dsimp only
  exact bv_noUpN h (br_f (by decide) H)
/-- a part of upload 0, once begun: a number that is none, or the first part -/
theorem bv_part0 {post : Int32 → St2 → Prop} {f0 f1 f2 f3 f4 : Int32} {a1 a2 a3 a4 a5 a6 a7 a8 a9 a10 : Nat → Int32} {y z : Int32} (h8 : ¬ a8 0 = 0) (h9 : a9 0 = 0)
    (H0 : (y < 0 ∨ ¬ y ≤ 7) → post (-6) (f0, f1, f2, f3, f4, a1, a2, a3, a4, a5, a6, a7, a8, a9, a10))
    (H1 : ¬ y < 0 → y ≤ 7 → ∀ b9 b10, post 1 (f0, f1, f2, f3, f4, a1, a2, a3, a4, a5, a6, a7, a8, b9, b10)) : wpX_part post (f0, f1, f2, f3, f4, a1, a2, a3, a4, a5, a6, a7, a8, a9, a10) 0 y z := by
  unfold wpX_part
  dsimp only
  refine br_f (by decide) (br_f (by decide) ⟨pk_in 0 3 (by omega), ?_⟩)
  rw [bv_c0]
  refine br_f h8 (br_t rfl (br_c (fun g => H0 (Or.inl g)) (fun g => br_c (fun g2 => ?_) (fun g2 => H0 (Or.inr g2)))))
  obtain ⟨k, hk, rfl⟩ := nI_of2 (M := 7) (n := 7) (by decide) g g2
  refine ⟨pk_in 0 3 (by omega), pk_in 0 3 (by omega), nm_e ⟨pk_in k 24 (by omega) ?_, nm_e ⟨pk_in 0 3 (by omega), bv_bits ?_⟩⟩⟩
  · rw [show (0 : Int32) * 8 = nI 0 by decide, nI_add, Nat.zero_add]
  · rw [pk_us, h9, bv_one k (by omega)]
    exact H1 g g2 _ _
end
section
theorem bv_key : ∀ l, l < 6 → ¬ (0 : Int32) + (nI l + 1) * 343 = 0 := by decide +kernel
/-- the law, where the letter is none -/
theorem bv_bad {mc ms kc ks : Nat} {x0 x1 x2 x3 x4 x5 : Int32} (h : x0 < 0 ∨ 5 < x0) :
    wL_lawOf_23 (fun r _ => r = 1) mc ms x0 x1 x2 x3 x4 x5 0 kc ks 0 0 0 0 0 (fun _ => 0) (fun _ => 0) (fun _ => 0) (fun _ => 0) (fun _ => 0) (fun _ => 0) (fun _ => 0) (fun _ => 0) (fun _ => 0) (fun _ => 0) := by
  have E : ∀ z0 : Int32, wL_lawOf_170 (fun r _ => r = 1) mc ms x3 x4 x5 0 z0 kc ks 0 0 0 0 0 (fun _ => 0) (fun _ => 0) (fun _ => 0) (fun _ => 0) (fun _ => 0) (fun _ => 0) (fun _ => 0) (fun _ => 0) (fun _ => 0) (fun _ => 0) := by
    intro z0
    unfold wL_lawOf_170
    exact bv_partN (fun _ _ _ => rfl) (br_t rfl (br_t rfl rfl))
  unfold wL_lawOf_23
  refine bv_put0 (br_t rfl (bv_typeBad h (br_t rfl (br_t rfl (bv_put0 (br_t rfl (br_t rfl (br_t rfl ?_))))))))
  unfold wL_lawOf_92 wL_lawOf_93
  refine bv_contentN (fun _ _ => Or.inl rfl) (br_t rfl (br_t rfl (bv_begin0 (br_t rfl (br_t rfl (br_t rfl ?_))))))
  exact br_c (fun _ => E 1) (fun _ => br_c (fun _ => E 0) (fun _ => E 1))
/-- the law behind the upload's begin, where the letter is one -/
theorem bv_end {mc ms kc ks : Nat} {x3 x4 x5 k : Int32} {a1 a2 a3 a4 a5 a6 a7 a8 a9 a10 : Nat → Int32} (hk : ¬ a8 0 = 0) (h8 : ∀ j, 0 < j → a8 j = 0) (h9 : a9 0 = 0) :
    wL_lawOf_132 (fun r _ => r = 1) mc ms x3 x4 x5 1 0 0 kc ks 1 k 1 1 1 a1 a2 a3 a4 a5 a6 a7 a8 a9 a10 := by
  refine br_t rfl (br_f (by decide) (br_c (fun e => ?_) (fun e => ?_)))
  · subst e
    have E0 : (¬ x4 < 0) → x4 ≤ 7 → wL_lawOf_170 (fun r _ => r = 1) mc ms 0 x4 x5 1 0 kc ks 1 k 1 1 1 a1 a2 a3 a4 a5 a6 a7 a8 a9 a10 := by
      intro g g2
      unfold wL_lawOf_170
      exact bv_part0 hk h9 (fun t => absurd t (fun t => t.elim g (fun t => t g2))) (fun _ _ _ _ => br_f (by decide) (br_t rfl (br_t rfl rfl)))
    have E1 : (x4 < 0 ∨ ¬ x4 ≤ 7) → wL_lawOf_170 (fun r _ => r = 1) mc ms 0 x4 x5 1 1 kc ks 1 k 1 1 1 a1 a2 a3 a4 a5 a6 a7 a8 a9 a10 := by
      intro t
      unfold wL_lawOf_170
      exact bv_part0 hk h9 (fun _ => br_f (by decide) (br_f (by decide) (br_t rfl rfl))) (fun g g2 => absurd t (fun t => t.elim g (fun t => t g2)))
    exact br_c (fun g => E1 (Or.inl g)) (fun g => br_c (fun g2 => E0 g g2) (fun g2 => E1 (Or.inr g2)))
  · have E : ∀ z0 : Int32, wL_lawOf_170 (fun r _ => r = 1) mc ms x3 x4 x5 0 z0 kc ks 1 k 1 1 1 a1 a2 a3 a4 a5 a6 a7 a8 a9 a10 := by
      intro z0
      unfold wL_lawOf_170
      refine bv_partN (fun j hj ej => ?_) (br_t rfl (br_t rfl rfl))
      refine h8 j (Nat.pos_of_ne_zero (fun j0 => e ?_))
      rw [ej, j0, nI_0]
    exact br_c (fun _ => E 1) (fun _ => br_c (fun _ => E 0) (fun _ => E 1))
/-- the law behind the second put, where the letter is one -/
theorem bv_mid {mc ms kc ks : Nat} {x1 x2 x3 x4 x5 k : Int32} {a1 a2 a3 a4 a5 a6 a7 : Nat → Int32} (hk : ¬ k = 0) (h3 : ¬ a3 0 = 0) (h3' : ∀ j, 0 < j → a3 j = 0) (h4 : a4 0 = 0) (h5 : a5 0 = x1) (h6 : a6 0 = 0) :
    wL_lawOf_74 (fun r _ => r = 1) mc ms x1 x2 x3 x4 x5 1 0 0 kc ks 1 k 1 1 1 a1 a2 a3 a4 a5 a6 a7 (fun _ => 0) (fun _ => 0) (fun _ => 0) := by
  have B : ∀ z : Int32, wL_lawOf_111 (fun r _ => r = 1) mc ms x3 x4 x5 1 z z kc ks 1 k 1 1 1 a1 a2 a3 a4 a5 a6 a7 (fun _ => 0) (fun _ => 0) (fun _ => 0) := by
    intro z
    refine br_t rfl (bv_beginGood rfl (br_f (by decide) (bv_end ?_ ?_ ?_)))
    · rw [pk_us]
      exact hk
    · intro j hj
      rw [pk_un (by omega)]
    · rw [pk_us]
  refine br_t rfl (br_f (by decide) (br_c (fun e => ?_) (fun e => ?_)))
  · unfold wL_lawOf_93
    refine bv_content0 h3 (by rw [h4, e]) h6 (br_f (by decide) ?_)
    rw [h5]
    exact B x1
  · unfold wL_lawOf_92 wL_lawOf_93
    refine bv_contentN (fun j _ => ?_) (br_t rfl (B 0))
    rcases Nat.eq_zero_or_pos j with j0 | j0
    · rw [j0, h4]
      exact Or.inr (fun t => e t.symm)
    · exact Or.inl (h3' j j0)
/-- the law, where the letter is one -/
theorem bv_good {mc ms kc ks : Nat} {x0 x1 x2 x3 x4 x5 : Int32} (h0 : ¬ x0 < 0) (h5 : x0 ≤ 5) :
    wL_lawOf_23 (fun r _ => r = 1) mc ms x0 x1 x2 x3 x4 x5 1 kc ks 0 0 0 0 0 (fun _ => 0) (fun _ => 0) (fun _ => 0) (fun _ => 0) (fun _ => 0) (fun _ => 0) (fun _ => 0) (fun _ => 0) (fun _ => 0) (fun _ => 0) := by
  have hk : ¬ (0 : Int32) + (x0 + 1) * 343 = 0 := by
    obtain ⟨l, hl, rfl⟩ := nI_of2 (M := 5) (n := 5) (by decide) h0 h5
    exact bv_key l (by omega)
  unfold wL_lawOf_23
  refine bv_put0 (br_t rfl (bv_typeGood h0 h5 (br_f (by decide) (br_t rfl (bv_putGood rfl (br_f (by decide) (bv_mid hk ?_ ?_ ?_ ?_ ?_)))))))
  · rw [pk_us]
    decide
  · intro j hj
    rw [pk_un (by omega)]
  · rw [pk_us]
  · rw [pk_us]
  · rw [pk_us]
theorem bv_lawOf (x0 x1 x2 x3 x4 x5 : Int32) : wpL_lawOf (fun r _ => r = 1) 112 1776 () x0 x1 x2 x3 x4 x5 := by
  unfold wpL_lawOf
  refine ⟨by omega, by omega, 10, 198, by omega, by omega, ?_⟩
  unfold wpX_init
  dsimp only
  refine ⟨by omega, by omega, by omega, by omega, by omega, by omega, by omega, by omega, by omega, by omega, by omega, by omega, by omega, by omega, by omega, by omega, by omega, by omega, by omega, by omega, ?_⟩
  exact br_c (fun g => bv_bad (Or.inl g)) (fun g => br_c (fun g2 => bv_bad (Or.inr g2)) (fun g2 => bv_good g (Int32.not_lt.mp g2)))
theorem i_vc (xs : Nat → Int32) (L : Nat) (hL : L ≤ 6) : wpL_law (fun r => r = 1) L xs := by
  unfold wpL_law
  refine bv_cell 0 hL (by omega) rfl (fun r1 => bv_cell 1 hL (by omega) rfl (fun r2 => bv_cell 2 hL (by omega) rfl (fun r3 => bv_cell 3 hL (by omega) rfl (fun r4 => bv_cell 4 hL (by omega) rfl (fun r5 => bv_cell 5 hL (by omega) rfl (fun r6 => ?_))))))
  exact ⟨112, 1776, by omega, by omega, bv_lawOf r1 r2 r3 r4 r5 r6⟩
end
