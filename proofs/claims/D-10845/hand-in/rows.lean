section
/-! the class's methods, at the states that the law brings about -/
/-- the law's picture of the object: flags x3, 'a stem was taken' x8; the buffer is empty or holds one 9 -/
def qa_K (x3 x8 t st : Int32) (a1 a9 : Nat → Int32) : Prop :=
  (x8 = 0 ∧ st = 0 ∧ (t = 0 ∨ (t = 1 ∧ a1 0 = 9))) ∨ (x8 = 1 ∧ st = 1 ∧ t = 0 ∧ a9 0 = x3 &&& 255)
theorem qa_KT {x3 x8 t st : Int32} {a1 a9 : Nat → Int32} (K : qa_K x3 x8 t st a1 a9) : t = 0 ∨ (t = 1 ∧ a1 0 = 9) := by
  rcases K with ⟨_, _, h⟩ | ⟨_, _, h, _⟩
  · exact h
  · exact Or.inl h
theorem qa_K0 {x3 x8 t st : Int32} {a1 a9 : Nat → Int32} (K : qa_K x3 x8 t st a1 a9) : qa_K x3 x8 0 st a1 a9 := by
  rcases K with ⟨h1, h2, _⟩ | ⟨h1, h2, _, h4⟩
  · exact Or.inl ⟨h1, h2, Or.inl rfl⟩
  · exact Or.inr ⟨h1, h2, rfl, h4⟩
theorem qa_c1 : (1 : Int32).toNatClampNeg = 1 := by decide
theorem qa_c2 : (2 : Int32).toNatClampNeg = 2 := by decide
theorem qa_z (c : Int32) (j : Nat) : 0 * c + nI j = nI j := by rw [Int32.zero_mul, Int32.zero_add]
theorem qa_ne {x : Int32} (h : ¬ x = 0) : x < 0 ∨ ¬ x < 1 := by
  by_cases g : x < 0
  · exact Or.inl g
  · obtain ⟨j, hj, rfl⟩ := nI_of g
    have hj0 : j ≠ 0 := fun e => h (by rw [e]; exact nI_0)
    exact Or.inr (nI_nlt (b := 1) (by omega) hj)
section
variable {t ru st no wl il cl fo : Int32} {a1 a2 a3 a4 a5 a6 a7 a8 a9 a10 a11 a12 a13 a14 a15 a16 : Nat → Int32}
theorem qa_any0 {post : Int32 → Prop} (h : post 0) : wpX_hasAny post (0, ru, st, no, wl, il, cl, fo, a1, a2, a3, a4, a5, a6, a7, a8, a9, a10, a11, a12, a13, a14, a15, a16) :=
  ⟨1, br_t (by decide) h⟩
theorem qa_any9 {post : Int32 → Prop} (h9 : a1 0 = 9) (h : post 1) : wpX_hasAny post (1, ru, st, no, wl, il, cl, fo, a1, a2, a3, a4, a5, a6, a7, a8, a9, a10, a11, a12, a13, a14, a15, a16) :=
  ⟨1, br_f (by decide) ⟨pk_in 0 12 (by decide), br_t (by rw [sb_cl0]; exact h9) h⟩⟩
theorem qa_anyP {post : Int32 → Prop} (h9 : ¬ a1 0 = 9) (h : post 0) : wpX_hasAny post (1, ru, st, no, wl, il, cl, fo, a1, a2, a3, a4, a5, a6, a7, a8, a9, a10, a11, a12, a13, a14, a15, a16) :=
  ⟨2, br_f (by decide) ⟨pk_in 0 12 (by decide), br_f (by rw [sb_cl0]; exact h9) (nm_r (e' := 1) (by decide) (br_t (by decide) h))⟩⟩
theorem qa_typeN {post : Int32 → St2 → Prop} {p : Int32} (hp : p < 1 ∨ ¬ p ≤ 9) (h : post (-1) (t, ru, st, no, wl, il, cl, fo, a1, a2, a3, a4, a5, a6, a7, a8, a9, a10, a11, a12, a13, a14, a15, a16)) : wpX_type post (t, ru, st, no, wl, il, cl, fo, a1, a2, a3, a4, a5, a6, a7, a8, a9, a10, a11, a12, a13, a14, a15, a16) p :=
  br_c (fun _ => h) (fun g => br_f (hp.resolve_left g) h)
theorem qa_typeY {post : Int32 → St2 → Prop} {p : Int32} (h1 : ¬ p < 1) (h9 : p ≤ 9) (h : post 1 (1, ru, st, no, wl, il, cl, fo, upd a1 0 p, a2, a3, a4, a5, a6, a7, a8, a9, a10, a11, a12, a13, a14, a15, a16)) : wpX_type post (0, ru, st, no, wl, il, cl, fo, a1, a2, a3, a4, a5, a6, a7, a8, a9, a10, a11, a12, a13, a14, a15, a16) p :=
  br_f h1 (br_t h9 (br_t (by decide) ⟨pk_in 0 12 (by decide), nm_r (e' := upd a1 0 p) (by rw [sb_cl0]) (nm_r (e' := 1) (by decide) h)⟩))
theorem qa_stem0 {post : Int32 → St2 → Prop} {p : Int32} (h : post (-3) (0, ru, st, no, wl, il, cl, fo, a1, a2, a3, a4, a5, a6, a7, a8, a9, a10, a11, a12, a13, a14, a15, a16)) : wpX_stem post (0, ru, st, no, wl, il, cl, fo, a1, a2, a3, a4, a5, a6, a7, a8, a9, a10, a11, a12, a13, a14, a15, a16) p := by
  unfold wpX_stem
  exact qa_any0 (br_t rfl h)
theorem qa_stem9 {post : Int32 → St2 → Prop} {p : Int32} (h9 : a1 0 = 9) (h : post (-3) (1, ru, st, no, wl, il, cl, fo, a1, a2, a3, a4, a5, a6, a7, a8, a9, a10, a11, a12, a13, a14, a15, a16)) : wpX_stem post (1, ru, st, no, wl, il, cl, fo, a1, a2, a3, a4, a5, a6, a7, a8, a9, a10, a11, a12, a13, a14, a15, a16) p := by
  unfold wpX_stem
  exact qa_any9 h9 (br_f (by decide) (br_f (by decide) h))
theorem qa_child {post : Int32 → St2 → Prop} {j : Nat} (hj : j < 8) (h0 : a10 j = 0) (h : post 1 (t, ru, st, 2, wl, il, cl, fo, a1, a2, a3, a4, a5, a6, a7, a8, a9, upd a10 j 1, upd a11 1 (-1), a12, a13, a14, a15, a16)) : wpX_childOf post (t, ru, st, 1, wl, il, cl, fo, a1, a2, a3, a4, a5, a6, a7, a8, a9, a10, a11, a12, a13, a14, a15, a16) 0 (nI j) :=
  nm_r (e' := nI j) (qa_z 8 j) ⟨pk_in j 1160 (by omega), br_t (by rw [nI_clamp (by omega)]; exact h0) (br_f (by decide) ⟨pk_in j 1160 (by omega), nm_r (e' := upd a10 j 1) (by rw [nI_clamp (by omega)]) ⟨pk_in 1 145 (by decide), nm_r (e' := upd a11 1 (-1)) (by rw [qa_c1]) (nm_r (e' := 2) (by decide) ⟨pk_in j 1160 (by omega), by rw [nI_clamp (by omega), pk_us]; exact h⟩)⟩⟩)⟩
theorem qa_chain {post : St2 → Prop} {p : Int32} (hn : a11 1 = -1) (h : post (t, ru, st, no, wl, il, cl, fo, a1, a2, a3, a4, a5, a6, a7, a8, a9, a10, upd a11 1 p, a12, a13, a14, a15, a16)) : wpX_chain post (t, ru, st, no, wl, il, cl, fo, a1, a2, a3, a4, a5, a6, a7, a8, a9, a10, a11, a12, a13, a14, a15, a16) 1 p :=
  ⟨pk_in 1 145 (by decide), br_f (by rw [qa_c1, hn]; decide) ⟨pk_in 1 145 (by decide), nm_r (e' := upd a11 1 p) (by rw [qa_c1]) h⟩⟩
theorem qa_stemP {post : Int32 → St2 → Prop} {p : Int32} {j : Nat} (hj : j < 8) (hq : a1 0 - 1 = nI j) (h9 : ¬ a1 0 = 9)
    (H : ∀ no a9' a10 a11 a12, a9' 0 = p &&& 255 → post 0 (0, ru, 1, no, wl, il, cl, fo, a1, a2, a3, a4, a5, a6, a7, a8, a9', a10, a11, a12, a13, a14, a15, a16)) : wpX_stem post (1, ru, 0, 1, wl, il, cl, fo, a1, a2, a3, a4, a5, a6, a7, a8, a9, (fun _ => 0), a11, a12, a13, a14, a15, a16) p := by
  unfold wpX_stem
  refine qa_anyP h9 (br_f (by decide) (br_t rfl (br_t (by decide) ⟨2, ?_⟩)))
  refine br_f (by decide) ⟨pk_in 0 12 (by decide), ?_⟩
  rw [sb_cl0, hq]
  refine qa_child hj rfl (nm_r (e' := 1) (by decide) ?_)
  exact br_t (by decide) ⟨pk_in 0 12 (by decide), nm_r (e' := upd a9 0 (p &&& 255)) (by rw [sb_cl0]) ⟨pk_in 0 12 (by decide), nm_r (e' := upd a12 0 (-1)) (by rw [sb_cl0]) (qa_chain pk_us (nm_r (e' := 1) (by decide) (H _ _ _ _ _ pk_us)))⟩⟩
theorem qa_k37a {post : Int32 → St2 → Prop} {j : Nat} (hj : j ≤ 2) (h : post 0 (0, ru, st, no, wl, il, cl, fo, a1, upd a2 j 0, a3, a4, a5, a6, a7, a8, a9, a10, a11, a12, a13, a14, a15, a16)) : wX_keep_37 post (nI j) 0 ru st no wl il cl fo a1 a2 a3 a4 a5 a6 a7 a8 a9 a10 a11 a12 a13 a14 a15 a16 :=
  ⟨pk_in j 3 (by omega), nm_r (e' := upd a2 j 0) (by rw [nI_clamp (by omega)]) ⟨1, br_t (by decide) ⟨pk_in j 3 (by omega), by rw [nI_clamp (by omega), pk_us]; exact h⟩⟩⟩
theorem qa_k37b {post : Int32 → St2 → Prop} (h : ∀ a3, post 1 (0, ru, st, no, wl, il, cl, fo, a1, upd a2 2 1, a3, a4, a5, a6, a7, a8, a9, a10, a11, a12, a13, a14, a15, a16)) : wX_keep_37 post 2 1 ru st no wl il cl fo a1 a2 a3 a4 a5 a6 a7 a8 a9 a10 a11 a12 a13 a14 a15 a16 :=
  ⟨pk_in 2 3 (by decide), nm_r (e' := upd a2 2 1) (by rw [qa_c2]) ⟨2, br_f (by decide) ⟨pk_in 0 12 (by decide), pk_in 6 9 (by decide) (by decide), nm_e (nm_r (e' := 1) (by decide) (br_t (by decide) ⟨pk_in 2 3 (by decide), by rw [qa_c2, pk_us]; exact h _⟩))⟩⟩⟩
theorem qa_keep {post : Int32 → St2 → Prop} {x3 x8 x9 p : Int32} (K : qa_K x3 x8 t st a1 a9)
    (d1 : p < 0 → x9 = -4) (d2 : ¬ p ≤ 2 → x9 = -4) (d3 : t = 0 → ¬ p < 0 → p ≤ 2 → x9 = 0) (d4 : t = 1 → p = 2 → x9 = 1) (d5 : t = 1 → ¬ p < 0 → p ≤ 2 → ¬ p = 2 → x9 = -3)
    (H : ∀ t a2 a3, qa_K x3 x8 t st a1 a9 → post x9 (t, ru, st, no, wl, il, cl, fo, a1, a2, a3, a4, a5, a6, a7, a8, a9, a10, a11, a12, a13, a14, a15, a16)) : wpX_keep post (t, ru, st, no, wl, il, cl, fo, a1, a2, a3, a4, a5, a6, a7, a8, a9, a10, a11, a12, a13, a14, a15, a16) p := by
  refine br_c (fun g => ?_) (fun g => br_c (fun g2 => ?_) (fun g2 => ?_))
  · rw [d1 g] at H
    exact H _ _ _ K
  · rcases qa_KT K with e | ⟨e, h9⟩
    · have e9 := d3 e g g2
      subst e e9
      obtain ⟨j, hj, rfl⟩ := nI_of2 (M := 2) (n := 2) (by decide) g g2
      exact qa_any0 (br_f (by decide) (br_t rfl (qa_k37a hj (H _ _ _ K))))
    · subst e
      refine qa_any9 h9 (br_f (by decide) (br_f (by decide) (br_c (fun e2 => ?_) (fun e2 => ?_))))
      · have e9 := d4 rfl e2
        subst e2 e9
        exact qa_k37b (fun a3 => H _ _ a3 (qa_K0 K))
      · rw [d5 rfl g g2 e2] at H
        exact H _ _ _ K
  · rw [d2 g2] at H
    exact H _ _ _ K
theorem qa_r92 {post : Int32 → St2 → Prop} (H : ∀ a8, post 0 (t, 1, st, no, wl, il, cl, fo, a1, a2, a3, a4, a5, a6, a7, a8, a9, a10, a11, a12, a13, a14, a15, a16)) : ∃ n, wX_rule_92 post 0 t 0 st no wl il cl fo n 0 a1 a2 a3 a4 a5 a6 a7 a8 a9 a10 a11 a12 a13 a14 a15 a16 :=
  pk_loop (fun n i s => wX_rule_92 post 0 t 0 st no wl il cl fo n (nI i) a1 a2 a3 a4 a5 a6 a7 s a9 a10 a11 a12 a13 a14 a15 a16) (fun _ _ => True) 9 0 a8 (by omega) trivial
    (fun n s _ => br_t (by decide) (nm_r (e' := 1) (by decide) (H s)))
    (fun n i s hi _ hw => pk_le 9 i (fun z => absurd z (by omega)) (fun _ => ⟨pk_in i 9 hi, pk_in i 90 (by omega) (qa_z 9 i), nm_e (nm_r (nI_1 i) (hw _ trivial))⟩))
theorem qa_r58 {post : Int32 → St2 → Prop} (H : ∀ a7 a8, post 0 (t, 1, st, no, wl, il, cl, fo, a1, a2, a3, a4, a5, a6, a7, a8, a9, a10, a11, a12, a13, a14, a15, a16)) : ∃ n, wX_rule_58 post 0 t 0 st no wl il cl fo n 0 a1 a2 a3 a4 a5 a6 a7 a8 a9 a10 a11 a12 a13 a14 a15 a16 :=
  pk_loop (fun n i s => wX_rule_58 post 0 t 0 st no wl il cl fo n (nI i) a1 a2 a3 a4 a5 a6 s a8 a9 a10 a11 a12 a13 a14 a15 a16) (fun _ _ => True) 3 0 a7 (by omega) trivial
    (fun n s _ => br_t (by decide) (qa_r92 (H s)))
    (fun n i s hi _ hw => pk_le 3 i (fun z => absurd z (by omega)) (fun _ => ⟨pk_in i 3 hi, pk_in i 30 (by omega) (qa_z 3 i), nm_e (nm_r (nI_1 i) (hw _ trivial))⟩))
theorem qa_rule {post : Int32 → St2 → Prop} {p q r : Int32} (H5 : p < 0 ∨ ¬ p ≤ 7 → post (-5) (t, 0, st, no, wl, il, cl, fo, a1, a2, a3, a4, a5, a6, a7, a8, a9, a10, a11, a12, a13, a14, a15, a16)) (H0 : ¬ p < 0 → p ≤ 7 → ∀ a4 a5 a6 a7 a8, post 0 (t, 1, st, no, wl, il, cl, fo, a1, a2, a3, a4, a5, a6, a7, a8, a9, a10, a11, a12, a13, a14, a15, a16)) : wpX_rule post (t, 0, st, no, wl, il, cl, fo, a1, a2, a3, a4, a5, a6, a7, a8, a9, a10, a11, a12, a13, a14, a15, a16) p q r :=
  br_c (fun g => H5 (Or.inl g)) (fun g => br_c (fun g2 => br_t (by decide) ⟨pk_in 0 10 (by decide), nm_e ⟨pk_in 0 10 (by decide), nm_e ⟨pk_in 0 10 (by decide), nm_e (qa_r58 (H0 g g2 _ _ _))⟩⟩⟩) (fun g2 => H5 (Or.inr g2)))
theorem qa_reflagN {post : Int32 → St2 → Prop} {p q : Int32} (hp : p < 0 ∨ ¬ p < st) (h : post (-6) (t, ru, st, no, wl, il, cl, fo, a1, a2, a3, a4, a5, a6, a7, a8, a9, a10, a11, a12, a13, a14, a15, a16)) : wpX_reflag post (t, ru, st, no, wl, il, cl, fo, a1, a2, a3, a4, a5, a6, a7, a8, a9, a10, a11, a12, a13, a14, a15, a16) p q :=
  br_c (fun _ => h) (fun g => br_f (hp.resolve_left g) h)
theorem qa_reflag0 {post : Int32 → St2 → Prop} {q : Int32} (h : post (a9 0) (t, ru, 1, no, wl, il, cl, fo, a1, a2, a3, a4, a5, a6, a7, a8, upd a9 0 (q &&& 255), a10, a11, a12, a13, a14, a15, a16)) : wpX_reflag post (t, ru, 1, no, wl, il, cl, fo, a1, a2, a3, a4, a5, a6, a7, a8, a9, a10, a11, a12, a13, a14, a15, a16) 0 q :=
  br_f (by decide) (br_t (by decide) ⟨pk_in 0 12 (by decide), nm_r (e' := a9 0) (by rw [sb_cl0]) ⟨pk_in 0 12 (by decide), nm_r (e' := upd a9 0 (q &&& 255)) (by rw [sb_cl0]) h⟩⟩)
theorem qa_s23 {post : St2 → Prop} (h : post (t, ru, st, no, 0, il, cl, 0, a1, a2, a3, a4, a5, a6, a7, a8, a9, a10, a11, a12, a13, a14, a15, a16)) : ∃ n, wX_searchTyped_23 post t ru st no 0 il cl fo n 0 a1 a2 a3 a4 a5 a6 a7 a8 a9 a10 a11 a12 a13 a14 a15 a16 :=
  ⟨1, br_t (by decide) (br_t rfl h)⟩
theorem qa_typed {post : St2 → Prop} (T : t = 0 ∨ (t = 1 ∧ a1 0 = 9)) (h : post (t, ru, st, no, 0, il, cl, 0, a1, a2, a3, a4, a5, a6, a7, a8, a9, a10, a11, a12, a13, a14, a15, a16)) : wpX_searchTyped post (t, ru, st, no, wl, il, cl, fo, a1, a2, a3, a4, a5, a6, a7, a8, a9, a10, a11, a12, a13, a14, a15, a16) := by
  unfold wpX_searchTyped
  rcases T with e | ⟨e, h9⟩
  · subst e
    exact qa_any0 (br_t rfl (qa_s23 h))
  · subst e
    exact qa_any9 h9 (br_f (by decide) (qa_s23 h))
theorem qa_stemOf {post : Int32 → St2 → Prop} {p : Int32} (T : t = 0 ∨ (t = 1 ∧ a1 0 = 9)) (h : post (-6) (t, ru, st, no, 0, il, cl, 0, a1, a2, a3, a4, a5, a6, a7, a8, a9, a10, a11, a12, a13, a14, a15, a16)) : wpX_stemOf post (t, ru, st, no, wl, il, cl, fo, a1, a2, a3, a4, a5, a6, a7, a8, a9, a10, a11, a12, a13, a14, a15, a16) p := by
  unfold wpX_stemOf
  exact qa_typed T (br_c (fun _ => h) (fun g => br_f g h))
end
end
section
/-! the law's pieces, last first -/
section
variable {t ru st no wl il cl fo : Int32} {a1 a2 a3 a4 a5 a6 a7 a8 a9 a10 a11 a12 a13 a14 a15 a16 : Nat → Int32}
variable {post : Int32 → St0 → Prop} {mc ms kc ks : Nat} {x0 x1 x2 x3 x4 x5 x7 x8 x9 z0 z1 : Int32}
theorem qa_200 (hp : post 1 ()) (T : t = 0 ∨ (t = 1 ∧ a1 0 = 9)) (hz : z1 = z0) : wL_lawOf_200 post mc ms x5 z0 z1 kc ks t ru st no wl il cl fo a1 a2 a3 a4 a5 a6 a7 a8 a9 a10 a11 a12 a13 a14 a15 a16 :=
  br_t hz (qa_stemOf T (br_t rfl hp))
theorem qa_166 (hp : post 1 ()) (K : qa_K x3 x8 t st a1 a9) : wL_lawOf_166 post mc ms x3 x4 x5 x8 z0 z0 kc ks t ru st no wl il cl fo a1 a2 a3 a4 a5 a6 a7 a8 a9 a10 a11 a12 a13 a14 a15 a16 := by
  have T := qa_KT K
  refine br_t rfl ?_
  rcases K with ⟨e8, es, _⟩ | ⟨e8, es, et, h⟩
  · subst e8 es
    exact qa_reflagN (Decidable.em _) (br_t rfl (qa_200 hp T rfl))
  · subst e8 es
    by_cases e : x4 = 0
    · subst e
      exact qa_reflag0 (br_f (by decide) (br_t rfl (qa_200 hp T h)))
    · exact qa_reflagN (qa_ne e) (br_f (by decide) (br_f e (qa_200 hp T rfl)))
theorem qa_129 (hp : post 1 ()) (K : qa_K x3 x8 t st a1 a9)
    (d1 : x1 < 0 → x9 = -4) (d2 : ¬ x1 ≤ 2 → x9 = -4) (d3 : t = 0 → ¬ x1 < 0 → x1 ≤ 2 → x9 = 0) (d4 : t = 1 → x1 = 2 → x9 = 1) (d5 : t = 1 → ¬ x1 < 0 → x1 ≤ 2 → ¬ x1 = 2 → x9 = -3) :
    wL_lawOf_129 post mc ms x1 x2 x3 x4 x5 x8 x9 kc ks t 0 st no wl il cl fo a1 a2 a3 a4 a5 a6 a7 a8 a9 a10 a11 a12 a13 a14 a15 a16 := by
  unfold wL_lawOf_129
  refine qa_keep K d1 d2 d3 d4 d5 (fun t' a2' a3' K' => br_t rfl (qa_rule (fun g => ?_) (fun g g2 a4' a5' a6' a7' a8' => ?_)))
  · exact br_c (fun _ => qa_166 hp K') (fun n => br_f (g.resolve_left n) (qa_166 hp K'))
  · exact br_f g (br_t g2 (qa_166 hp K'))
theorem qa_103 (hp : post 1 ()) (K : qa_K x3 x8 t st a1 a9) (D9 : x0 = 9 → t = 1) (D0 : ¬ x0 = 9 → t = 0)
    (h1 : x1 < 0 → z0 = -4) (h2 : ¬ x1 ≤ 2 → z0 = -4) (h3 : ¬ x1 < 0 → x1 ≤ 2 → z0 = 0) :
    wL_lawOf_103 post mc ms x0 x1 x2 x3 x4 x5 x8 z0 kc ks t 0 st no wl il cl fo a1 a2 a3 a4 a5 a6 a7 a8 a9 a10 a11 a12 a13 a14 a15 a16 := by
  have n10 : ¬ (1 : Int32) = 0 := by decide
  have n40 : ¬ (0 : Int32) = -4 := by decide
  refine br_c (fun e9 => br_c (fun ez => br_c (fun e2 => ?_) (fun n2 => ?_)) (fun nz => ?_)) (fun n9 => ?_)
  · exact qa_129 hp K (fun g => absurd (ez.symm.trans (h1 g)) n40) (fun g => absurd (ez.symm.trans (h2 g)) n40) (fun e => absurd ((D9 e9).symm.trans e) n10) (fun _ _ => rfl) (fun _ _ _ g => absurd e2 g)
  · exact qa_129 hp K (fun g => absurd (ez.symm.trans (h1 g)) n40) (fun g => absurd (ez.symm.trans (h2 g)) n40) (fun e => absurd ((D9 e9).symm.trans e) n10) (fun _ g => absurd g n2) (fun _ _ _ _ => rfl)
  · exact qa_129 hp K h1 h2 (fun _ => h3) (fun _ g => absurd (h3 (by rw [g]; decide) (by rw [g]; decide)) nz) (fun _ g g2 _ => absurd (h3 g g2) nz)
  · exact qa_129 hp K h1 h2 (fun _ => h3) (fun e => absurd (e.symm.trans (D0 n9)) n10) (fun e => absurd (e.symm.trans (D0 n9)) n10)
theorem qa_83 (hp : post 1 ()) (K : qa_K x3 x8 t st a1 a9) (D9 : x0 = 9 → t = 1) (D0 : ¬ x0 = 9 → t = 0) :
    wL_lawOf_83 post mc ms x0 x1 x2 x3 x4 x5 x8 z0 z0 kc ks t 0 st no wl il cl fo a1 a2 a3 a4 a5 a6 a7 a8 a9 a10 a11 a12 a13 a14 a15 a16 :=
  br_t rfl (br_c (fun g => qa_103 hp K D9 D0 (fun _ => rfl) (fun _ => rfl) (fun n => absurd g n)) (fun g => br_c (fun g2 => qa_103 hp K D9 D0 (fun n => absurd n g) (fun n => absurd g2 n) (fun _ _ => rfl)) (fun g2 => qa_103 hp K D9 D0 (fun _ => rfl) (fun _ => rfl) (fun _ n => absurd n g2))))
theorem qa_64N (hp : post 1 ()) (T : t = 0 ∨ (t = 1 ∧ a1 0 = 9)) (D9 : x0 = 9 → t = 1) (D0 : ¬ x0 = 9 → t = 0) :
    wL_lawOf_64 post mc ms x0 x1 x2 x3 x4 x5 0 kc ks t 0 0 no wl il cl fo a1 a2 a3 a4 a5 a6 a7 a8 a9 a10 a11 a12 a13 a14 a15 a16 := by
  unfold wL_lawOf_64
  have K : qa_K x3 0 t 0 a1 a9 := Or.inl ⟨rfl, rfl, T⟩
  rcases T with e | ⟨e, h9⟩
  · subst e
    exact qa_stem0 (br_t rfl (qa_83 hp K D9 D0))
  · subst e
    exact qa_stem9 h9 (br_t rfl (qa_83 hp K D9 D0))
theorem qa_64P {j : Nat} (hp : post 1 ()) (hj : j < 8) (hq : a1 0 - 1 = nI j) (h9 : ¬ a1 0 = 9) (hx : ¬ x0 = 9) :
    wL_lawOf_64 post mc ms x0 x1 x2 x3 x4 x5 1 kc ks 1 0 0 1 wl il cl fo a1 a2 a3 a4 a5 a6 a7 a8 a9 (fun _ => 0) a11 a12 a13 a14 a15 a16 := by
  unfold wL_lawOf_64
  exact qa_stemP hj hq h9 (fun no' a9' a10' a11' a12' h => br_f (by decide) (qa_83 hp (Or.inr ⟨rfl, rfl, rfl, h⟩) (fun e => absurd e hx) (fun _ => rfl)))
theorem qa_25N (hp : post 1 ()) (hx : x0 < 1 ∨ ¬ x0 ≤ 9) : wL_lawOf_25 post mc ms x0 x1 x2 x3 x4 x5 0 kc ks 0 0 0 no wl il cl fo a1 a2 a3 a4 a5 a6 a7 a8 a9 a10 a11 a12 a13 a14 a15 a16 := by
  unfold wL_lawOf_25
  have h9 : ¬ x0 = 9 := by
    intro e
    subst e
    revert hx
    decide
  exact qa_typeN hx (br_t rfl (br_t rfl (br_t rfl (qa_64N hp (Or.inl rfl) (fun e => absurd e h9) (fun _ => rfl)))))
theorem qa_25Y (hp : post 1 ()) (h1 : ¬ x0 < 1) (h9 : x0 ≤ 9) : wL_lawOf_25 post mc ms x0 x1 x2 x3 x4 x5 1 kc ks 0 0 0 1 wl il cl fo a1 a2 a3 a4 a5 a6 a7 a8 a9 (fun _ => 0) a11 a12 a13 a14 a15 a16 := by
  unfold wL_lawOf_25
  have h0 : ¬ x0 < 0 := fun g => h1 (Int32.lt_trans g (by decide))
  obtain ⟨j, hj, rfl⟩ := nI_of2 (M := 9) (n := 9) (by decide) h0 h9
  refine qa_typeY h1 h9 (br_f (by decide) (br_t rfl (br_f (by decide) (pk_le 9 j (fun g => ?_) (fun g => ?_)))))
  · have e : j = 9 := by omega
    subst e
    exact qa_64N hp (Or.inr ⟨rfl, pk_us⟩) (fun _ => rfl) (fun n => absurd rfl n)
  · cases j with
    | zero => exact absurd (by decide) h1
    | succ j =>
      have n9 : ¬ nI (j + 1) = 9 := fun e => absurd ((nI_eq (b := 9) (by omega) (by decide)).mp e) (by omega)
      exact qa_64P (j := j) hp (by omega) (by rw [pk_us, nI_pred]) (by rw [pk_us]; exact n9) n9
end
end
section
theorem qa_cell {post : Int32 → Prop} {L : Nat} {xs : Nat → Int32} (hL : L ≤ 6) (i : Nat) (hi : i < 6) (h : ∀ v, post v) : wpL_cellAt post L xs () (nI i) :=
  pk_le L i (fun _ => h _) (fun z => ⟨pk_in i L z, h _⟩)
theorem qa_lawOf {post : Int32 → St0 → Prop} (hp : post 1 ()) (p0 p1 p2 p3 p4 p5 : Int32) : wpL_lawOf post 17 2016 () p0 p1 p2 p3 p4 p5 := by
  refine ⟨by decide, by decide, 16, 1992, by decide, by decide, ?_⟩
  refine ⟨by decide, by decide, by decide, by decide, by decide, by decide, by decide, by decide, by decide, by decide, by decide, by decide, by decide, by decide, by decide, by decide, by decide, by decide, by decide, by decide, by decide, by decide, by decide, by decide, by decide, by decide, by decide, by decide, by decide, by decide, by decide, by decide, ?_⟩
  refine nm_e ?_
  exact br_c (fun g => qa_25N hp (Or.inl g)) (fun g => br_c (fun g2 => qa_25N hp (Or.inr (Int32.not_le.mpr g2))) (fun g2 => qa_25Y hp g (Int32.not_lt.mp g2)))
theorem i_vc (xs : Nat → Int32) (L : Nat) (hL : L ≤ 6) : wpL_law (fun r => r = 1) L xs := by
  unfold wpL_law
  refine qa_cell hL 0 (by decide) (fun v0 => ?_)
  refine qa_cell hL 1 (by decide) (fun v1 => ?_)
  refine qa_cell hL 2 (by decide) (fun v2 => ?_)
  refine qa_cell hL 3 (by decide) (fun v3 => ?_)
  refine qa_cell hL 4 (by decide) (fun v4 => ?_)
  refine qa_cell hL 5 (by decide) (fun v5 => ?_)
  exact ⟨17, 2016, by decide, by decide, qa_lawOf rfl v0 v1 v2 v3 v4 v5⟩
end
