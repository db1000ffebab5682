section
/-! ===== TermIndex: small rows ===== -/
theorem ti_in {x : Int32} {n : Nat} (h : 0 ≤ x.toInt ∧ x.toInt < n) : vp_in x n := vp_in_iff.mpr h
theorem ti_nb {p : Int32} (hp : p = 0 ∨ p = 1) : narrow .boolean (.int p) = .int p := by
  rcases hp with rfl | rfl <;> rfl
/-- the picture of an index that holds one term: of n letters (1 or 2), the first of them f -/
def ti_P (n f : Int32) (a2 a4 a5 : Nat → Int32) : Prop := (n = 1 ∨ n = 2) ∧ a2 0 = 0 ∧ a4 0 = 1 ∧ a5 0 = 0 ∧ a5 1 = n ∧ a5 2 = f
/-- m: how many letters the key (kl of them, 0 or 1; the first is o) has in common with the term -/
def ti_M (kl f o m : Int32) : Prop := (kl = 0 ∧ m = 0) ∨ (kl = 1 ∧ f = o ∧ m = 1) ∨ (kl = 1 ∧ ¬ f = o ∧ m = 0)
/-- v: whether the term counts as less, with past p -/
def ti_V (kl f o p v : Int32) : Prop := (kl = 0 ∧ v = p) ∨ (kl = 1 ∧ f = o ∧ v = p) ∨ (kl = 1 ∧ ¬ f = o ∧ o ≤ f ∧ v = 0) ∨ (kl = 1 ∧ ¬ f = o ∧ ¬ o ≤ f ∧ v = 1)
theorem ti_MV {kl f o p v : Int32} (h : ti_V kl f o p v) : ∃ m, ti_M kl f o m := by
  rcases h with ⟨a, _⟩ | ⟨a, b, _⟩ | ⟨a, b, _, _⟩ | ⟨a, b, _, _⟩
  · exact ⟨0, Or.inl ⟨a, rfl⟩⟩
  · exact ⟨1, Or.inr (Or.inl ⟨a, b, rfl⟩)⟩
  · exact ⟨0, Or.inr (Or.inr ⟨a, b, rfl⟩)⟩
  · exact ⟨0, Or.inr (Or.inr ⟨a, b, rfl⟩)⟩
theorem ti_V01 {kl f o p v : Int32} (hp : p = 0 ∨ p = 1) (h : ti_V kl f o p v) : v = 0 ∨ v = 1 := by
  rcases h with ⟨_, e⟩ | ⟨_, _, e⟩ | ⟨_, _, _, e⟩ | ⟨_, _, _, e⟩
  · rw [e]; exact hp
  · rw [e]; exact hp
  · exact Or.inl e
  · exact Or.inr e
section
variable {kl bl tot fb fi li : Int32} {a1 a2 a3 a4 a5 a6 a7 : Nat → Int32}
/-! ===== type ===== -/
theorem ti_typeBad {post : Int32 → St2 → Prop} {p : Int32} (hp : p < 0 ∨ 9 < p) (h : post (-1) (kl, bl, tot, fb, fi, li, a1, a2, a3, a4, a5, a6, a7)) : wpX_type post (kl, bl, tot, fb, fi, li, a1, a2, a3, a4, a5, a6, a7) p :=
  br_c (fun _ => h) (fun z => br_t (hp.resolve_left z) h)
theorem ti_type0 {post : Int32 → St2 → Prop} {p : Int32} (h0 : ¬ p < 0) (h9 : ¬ 9 < p) (h : ∀ a : Nat → Int32, a 0 = p → post 1 (1, bl, tot, fb, fi, li, a, a2, a3, a4, a5, a6, a7)) : wpX_type post (0, bl, tot, fb, fi, li, a1, a2, a3, a4, a5, a6, a7) p := by
  refine br_f h0 (br_f h9 (br_t (by decide) ⟨ti_in (by decide), fun a ea => nm_r (e' := 1) (by decide) (h a ?_)⟩))
  rw [ea]
  exact pk_us
theorem ti_type1 {post : Int32 → St2 → Prop} {p : Int32} (h0 : ¬ p < 0) (h9 : ¬ 9 < p) (h : ∀ a : Nat → Int32, a 0 = a1 0 → post 2 (2, bl, tot, fb, fi, li, a, a2, a3, a4, a5, a6, a7)) : wpX_type post (1, bl, tot, fb, fi, li, a1, a2, a3, a4, a5, a6, a7) p := by
  refine br_f h0 (br_f h9 (br_t (by decide) ⟨ti_in (by decide), fun a ea => nm_r (e' := 2) (by decide) (h a ?_)⟩))
  rw [ea]
  exact pk_un (by decide)
/-! ===== searching ===== -/
theorem ti_tb {post : Int32 → Prop} (h : post 0) : wpX_termsBefore post (kl, bl, tot, fb, fi, li, a1, a2, a3, a4, a5, a6, a7) 0 :=
  ⟨1, br_t (by decide) h⟩
theorem ti_matched {post : Int32 → Prop} {n f m : Int32} (hP : ti_P n f a2 a4 a5) (hM : ti_M kl f (a1 0) m) (h : post m) : wpX_matched post (kl, bl, tot, fb, fi, li, a1, a2, a3, a4, a5, a6, a7) 0 0 := by
  obtain ⟨hn, h2, h4, h50, h51, h52⟩ := hP
  refine ⟨ti_in (by decide), ti_in (by decide), nm_r (e' := n) ?_ ?_⟩
  · show a5 0 + a5 1 = n
    rw [h50, h51, Int32.zero_add]
  · have e : ((0 : Int32) + 2) + 0 - a5 0 = 2 := by rw [h50]; decide
    have e' : a5 (((0 : Int32) + 2) + 0 - a5 0).toNatClampNeg = f := by rw [e]; exact h52
    have ei : vp_in (((0 : Int32) + 2) + 0 - a5 0) 768 := by rw [e]; exact ti_in (by decide)
    have hn0 : ¬ n ≤ 0 := by rcases hn with rfl | rfl <;> decide
    rcases hM with ⟨rfl, rfl⟩ | ⟨rfl, hf, rfl⟩ | ⟨rfl, hf, rfl⟩
    · exact ⟨1, br_t (by decide) h⟩
    · exact ⟨2, br_f (by decide) (br_f hn0 ⟨ti_in (by decide), ei, ti_in (by decide), br_t (e'.trans hf) (nm_r (e' := 1) (by decide) (br_t (by decide) h))⟩)⟩
    · exact ⟨1, br_f (by decide) (br_f hn0 ⟨ti_in (by decide), ei, ti_in (by decide), br_f (fun z => hf (e'.symm.trans z)) h⟩)⟩
theorem ti_less {post : Int32 → Prop} {n f m p v : Int32} (hP : ti_P n f a2 a4 a5) (hp : p = 0 ∨ p = 1) (hM : ti_M kl f (a1 0) m) (hV : ti_V kl f (a1 0) p v) (h : post v) : wpX_isLess post (kl, bl, tot, fb, fi, li, a1, a2, a3, a4, a5, a6, a7) 0 m p := by
  obtain ⟨hn, h2, h4, h50, h51, h52⟩ := hP
  have e : ((0 : Int32) + 2) + 0 - a5 0 = 2 := by rw [h50]; decide
  have e' : a5 (((0 : Int32) + 2) + 0 - a5 0).toNatClampNeg = f := by rw [e]; exact h52
  have ei : vp_in (((0 : Int32) + 2) + 0 - a5 0) 768 := by rw [e]; exact ti_in (by decide)
  have hn0 : ¬ (0 : Int32) = a5 0 + a5 1 := by
    rw [h50, h51, Int32.zero_add]
    rcases hn with rfl | rfl <;> decide
  rcases hV with ⟨rfl, rfl⟩ | ⟨rfl, hf, rfl⟩ | ⟨rfl, hf, hl, rfl⟩ | ⟨rfl, hf, hl, rfl⟩
  · rcases hM with ⟨_, rfl⟩ | ⟨z, _⟩ | ⟨z, _⟩
    · exact br_t rfl ⟨ti_nb hp, h⟩
    · exact absurd z (by decide)
    · exact absurd z (by decide)
  · rcases hM with ⟨z, _⟩ | ⟨_, _, rfl⟩ | ⟨_, z, _⟩
    · exact absurd z (by decide)
    · exact br_t rfl ⟨ti_nb hp, h⟩
    · exact absurd hf z
  · rcases hM with ⟨z, _⟩ | ⟨_, z, _⟩ | ⟨_, _, rfl⟩
    · exact absurd z (by decide)
    · exact absurd z hf
    · exact br_f (by decide) ⟨ti_in (by decide), ti_in (by decide), br_f hn0 ⟨ti_in (by decide), ei, ti_in (by decide), br_t (e'.symm ▸ hl) h⟩⟩
  · rcases hM with ⟨z, _⟩ | ⟨_, z, _⟩ | ⟨_, _, rfl⟩
    · exact absurd z (by decide)
    · exact absurd z hf
    · exact br_f (by decide) ⟨ti_in (by decide), ti_in (by decide), br_f hn0 ⟨ti_in (by decide), ei, ti_in (by decide), br_f (e'.symm ▸ hl) h⟩⟩
theorem ti_head {post : Int32 → Prop} {n f p v : Int32} (hP : ti_P n f a2 a4 a5) (hp : p = 0 ∨ p = 1) (hV : ti_V kl f (a1 0) p v) (h : post v) : wpX_headIsLess post (kl, bl, tot, fb, fi, li, a1, a2, a3, a4, a5, a6, a7) 0 p := by
  obtain ⟨m, hM⟩ := ti_MV hV
  refine ⟨ti_in (by decide), nm_r (e' := 0) ?_ (ti_matched hP hM (ti_less hP hp hM hV ⟨ti_nb (ti_V01 hp hV), h⟩))⟩
  show 48 * a2 0 = 0
  rw [hP.2.1]
  decide
theorem ti_scan {post : Int32 → Prop} {n f p v : Int32} (hP : ti_P n f a2 a4 a5) (hV : ti_V kl f (a1 0) p v) (h : post 1) : wpX_scanBlock post (kl, bl, tot, fb, fi, li, a1, a2, a3, a4, a5, a6, a7) 0 p := by
  obtain ⟨m, hM⟩ := ti_MV hV
  refine nm_r (e' := 0) (by decide) (ti_matched hP hM ⟨1, ti_in (by decide), br_t ?_ h⟩)
  show a4 0 ≤ 1
  rw [hP.2.2.1]
  decide
theorem ti_c55 {post : Int32 → St2 → Prop} {p : Int32} (h : post 0 (kl, bl, tot, 0, 0, li, a1, a2, a3, a4, a5, a6, a7)) : wX_countLess_55 post p 0 kl bl tot fb fi li a1 a2 a3 a4 a5 a6 a7 :=
  br_t (by decide) (br_t (by decide) (ti_tb (post := fun r => post (r + 0) (kl, bl, tot, 0, 0, li, a1, a2, a3, a4, a5, a6, a7)) (sb_at (P := fun r => post r (kl, bl, tot, 0, 0, li, a1, a2, a3, a4, a5, a6, a7)) (show (0 : Int32) + 0 = 0 by decide) h)))
theorem ti_c55s {post : Int32 → St2 → Prop} {n f p v : Int32} (hP : ti_P n f a2 a4 a5) (hV : ti_V kl f (a1 0) p v) (h : post 1 (kl, bl, tot, 0, 1, li, a1, a2, a3, a4, a5, a6, a7)) : wX_countLess_55 post p 1 kl bl tot fb fi li a1 a2 a3 a4 a5 a6 a7 := by
  refine br_f (by decide) ?_
  rw [show (1 : Int32) - 1 = 0 by decide]
  refine br_f (by decide) ⟨ti_in (by decide), ?_⟩
  rw [show a2 ((1 : Int32) - 1).toNatClampNeg = 0 from hP.2.1]
  exact ti_scan hP hV (ti_tb (post := fun r => post (r + 1) (kl, bl, tot, 0, 1, li, a1, a2, a3, a4, a5, a6, a7)) (sb_at (P := fun r => post r (kl, bl, tot, 0, 1, li, a1, a2, a3, a4, a5, a6, a7)) (show (0 : Int32) + 1 = 1 by decide) h))
/-- the search in an index of one block -/
theorem ti_count {post : Int32 → St2 → Prop} {n f p v : Int32} (hP : ti_P n f a2 a4 a5) (hp : p = 0 ∨ p = 1) (hV : ti_V kl f (a1 0) p v) (h : post v (kl, 1, tot, 0, v, li, a1, a2, a3, a4, a5, a6, a7)) : wpX_countLess post (kl, 1, tot, fb, fi, li, a1, a2, a3, a4, a5, a6, a7) p := by
  rcases ti_V01 hp hV with rfl | rfl
  · exact ⟨2, br_f (by decide) (br_f (by decide) ⟨by decide, nm_r (e' := 0) (by decide) (ti_head hP hp hV (br_t rfl (nm_r (e' := 1) (by decide) (br_f (by decide) (br_t (by decide) (ti_c55 h))))))⟩)⟩
  · exact ⟨2, br_f (by decide) (br_f (by decide) ⟨by decide, nm_r (e' := 0) (by decide) (ti_head hP hp hV (br_f (by decide) (nm_r (e' := 1) (by decide) (nm_r (e' := 1) (by decide) (br_f (by decide) (br_t (by decide) (ti_c55s hP hV h)))))))⟩)⟩
/-- .. and in an empty one -/
theorem ti_count0 {post : Int32 → St2 → Prop} {p : Int32} (h : post 0 (kl, 0, tot, 0, 0, li, a1, a2, a3, a4, a5, a6, a7)) : wpX_countLess post (kl, 0, tot, fb, fi, li, a1, a2, a3, a4, a5, a6, a7) p :=
  ⟨1, br_f (by decide) (br_t (by decide) (ti_c55 h))⟩
theorem ti_bor {post : Int32 → Prop} {n f : Int32} (hP : ti_P n f a2 a4 a5) (h : post 0) : wpX_blockOfRank post (kl, 1, tot, fb, fi, li, a1, a2, a3, a4, a5, a6, a7) 0 := by
  obtain ⟨hn, h2, h4, h50, h51, h52⟩ := hP
  refine ⟨1, br_f (by decide) ⟨ti_in (by decide), ?_, nm_r (e' := 1) ?_ (br_f (by decide) h)⟩⟩
  · show vp_in (a2 0) 16
    rw [h2]
    exact ti_in (by decide)
  · show (0 : Int32) + a4 (a2 0).toNatClampNeg = 1
    rw [h2, show a4 (0 : Int32).toNatClampNeg = 1 from h4]
    decide
end
end
section
section
variable {kl bl tot fb fi li : Int32} {a1 a2 a3 a4 a5 a6 a7 : Nat → Int32}
/-! ===== unpack ===== -/
/-- a block without terms -/
theorem ti_unpack0 {post : St2 → Prop} (h2 : a2 0 = 0) (h4 : a4 0 = 0) (h : post (kl, bl, tot, fb, fi, li, a1, a2, a3, a4, a5, a6, a7)) : wpX_unpack post (kl, bl, tot, fb, fi, li, a1, a2, a3, a4, a5, a6, a7) 0 := by
  refine ⟨ti_in (by decide), nm_e ⟨1, ti_in (by decide), ?_, br_t ?_ h⟩⟩
  · show vp_in (a2 0) 16
    rw [h2]
    exact ti_in (by decide)
  · show a4 (a2 0).toNatClampNeg ≤ 0
    rw [h2, show a4 (0 : Int32).toNatClampNeg = 0 from h4]
    decide
/-- the letters are copied: the term's end, and the block's -/
theorem ti_u78e {post : St2 → Prop} {n f x5 : Int32} (k : Nat) (hP : ti_P n f a2 a4 a5) (hx : n ≤ x5) (h6 : a6 0 = f) (h : ∀ b6 b7 : Nat → Int32, b6 0 = f → b7 0 = n → post (kl, bl, tot, fb, fi, 1, a1, a2, a3, a4, a5, b6, b7)) :
    wX_unpack_78 post (wX_unpack_15 post 0 kl bl tot fb fi 1) 0 0 0 kl bl tot fb fi 0 (k + 1) x5 a1 a2 a3 a4 a5 a6 a7 := by
  obtain ⟨hn, h2, h4, h50, h51, h52⟩ := hP
  refine ⟨ti_in (by decide), br_t (show a5 1 ≤ x5 from h51.symm ▸ hx) ⟨ti_in (by decide), ti_in (by decide), ti_in (by decide), fun b7 e7 => nm_e (nm_r (e' := 1) (by decide) ⟨ti_in (by decide), nm_e (nm_r (e' := 1) (by decide) ⟨ti_in (by decide), ?_, br_t ?_ (h a6 b7 h6 ?_)⟩)⟩)⟩⟩
  · show vp_in (a2 0) 16
    rw [h2]
    exact ti_in (by decide)
  · show a4 (a2 0).toNatClampNeg ≤ 1
    rw [h2, show a4 (0 : Int32).toNatClampNeg = 1 from h4]
    decide
  · rw [e7]
    refine pk_us.trans ?_
    show a5 0 + a5 1 = n
    rw [h50, h51, Int32.zero_add]
/-- the first block's one term is laid into the empty list -/
theorem ti_unpack {post : St2 → Prop} {n f : Int32} (hP : ti_P n f a2 a4 a5) (h : ∀ b6 b7 : Nat → Int32, b6 0 = f → b7 0 = n → post (kl, bl, tot, fb, fi, 1, a1, a2, a3, a4, a5, b6, b7)) : wpX_unpack post (kl, bl, tot, fb, fi, 0, a1, a2, a3, a4, a5, a6, a7) 0 := by
  have hP' := hP
  obtain ⟨hn, h2, h4, h50, h51, h52⟩ := hP
  have ei : ∀ x : Int32, (6 * (0 : Int32) + a5 0) + x = x := by
    intro x
    rw [h50, show 6 * (0 : Int32) + 0 = 0 by decide, Int32.zero_add]
  have i0 : vp_in ((6 * (0 : Int32) + a5 0) + 0) 96 := by rw [ei]; exact ti_in (by decide)
  have i1 : vp_in ((6 * (0 : Int32) + a5 0) + 1) 96 := by rw [ei]; exact ti_in (by decide)
  have hn0 : ¬ a5 1 ≤ 0 := by rw [h51]; rcases hn with rfl | rfl <;> decide
  refine ⟨ti_in (by decide), nm_r (e' := 0) ?_ ⟨2, ti_in (by decide), ?_, br_f ?_ ⟨1, ti_in (by decide), br_t ?_ ⟨3, ti_in (by decide), br_f hn0 ⟨ti_in (by decide), ti_in (by decide), i0, fun b6 e6 => nm_r (e' := 1) (by decide) ?_⟩⟩⟩⟩⟩
  · show 48 * a2 0 = 0
    rw [h2]
    decide
  · show vp_in (a2 0) 16
    rw [h2]
    exact ti_in (by decide)
  · show ¬ a4 (a2 0).toNatClampNeg ≤ 0
    rw [h2, show a4 (0 : Int32).toNatClampNeg = 1 from h4]
    decide
  · show a5 0 ≤ 0
    rw [h50]
    decide
  · have e6' : b6 0 = f := by
      rw [e6, sb_cl0, ei]
      exact pk_us.trans h52
    rcases hn with rfl | rfl
    · exact ti_u78e 1 hP' (by decide) e6' h
    · refine ⟨ti_in (by decide), br_f (show ¬ a5 1 ≤ 1 by rw [h51]; decide) ⟨ti_in (by decide), ti_in (by decide), i1, fun c6 f6 => nm_r (e' := 2) (by decide) (ti_u78e 0 hP' (by decide) ?_ h)⟩⟩
      rw [f6, sb_cl0, ei]
      exact (pk_un (by decide)).trans e6'
/-! ===== the key against the list ===== -/
theorem ti_swk {post : Int32 → Prop} {n f m : Int32} (hn : n = 1 ∨ n = 2) (h6 : a6 0 = f) (h7 : a7 0 = n) (hM : ti_M kl f (a1 0) m) (h : post m) : wpX_sharedWithKey post (kl, bl, tot, fb, fi, li, a1, a2, a3, a4, a5, a6, a7) 0 := by
  have hn0 : ¬ a7 0 ≤ 0 := by rw [h7]; rcases hn with rfl | rfl <;> decide
  rcases hM with ⟨rfl, rfl⟩ | ⟨rfl, hf, rfl⟩ | ⟨rfl, hf, rfl⟩
  · exact ⟨1, br_t (by decide) h⟩
  · exact ⟨2, br_f (by decide) ⟨ti_in (by decide), br_f hn0 ⟨ti_in (by decide), ti_in (by decide), br_t (h6.trans hf) (nm_r (e' := 1) (by decide) (br_t (by decide) h))⟩⟩⟩
  · exact ⟨1, br_f (by decide) ⟨ti_in (by decide), br_f hn0 ⟨ti_in (by decide), ti_in (by decide), br_f (fun z => hf (h6.symm.trans z)) h⟩⟩⟩
/-! ===== building the block ===== -/
theorem ti_ob {post : St2 → Prop} (h3 : ∀ j, j < 16 → a3 j = 0) (h : post (kl, 1, tot, fb, fi, li, a1, upd a2 0 0, upd a3 0 1, upd a4 0 0, a5, a6, a7)) :
    ∀ i, i ≤ 16 → ∀ s : Int32, (i = 0 → s = 0) → wX_openBlock_5 post 0 kl 0 tot fb fi li a1 a2 a3 a4 a5 a6 a7 (i + 1) s (nI i + (-1)) := by
  intro i
  induction i with
  | zero =>
    intro _ s hs
    rw [hs rfl]
    exact br_t (by decide) ⟨ti_in (by decide), nm_e ⟨ti_in (by decide), nm_e ⟨1, br_t (by decide) ⟨ti_in (by decide), nm_e (nm_r (e' := 1) (by decide) h)⟩⟩⟩⟩
  | succ i ih =>
    intro hi s hs
    rw [pk_m1]
    exact br_f (nI_pos (by omega)) ⟨pk_in i 16 (by omega), br_t (by rw [nI_clamp (by omega)]; exact h3 i (by omega)) (nm_e (ih (by omega) _ (fun e => by rw [e, nI_0])))⟩
theorem ti_open {post : St2 → Prop} (h3 : ∀ j, j < 16 → a3 j = 0) (h : post (kl, 1, tot, fb, fi, li, a1, upd a2 0 0, upd a3 0 1, upd a4 0 0, a5, a6, a7)) : wpX_openBlock post (kl, 0, tot, fb, fi, li, a1, a2, a3, a4, a5, a6, a7) 0 := by
  have t := ti_ob h3 h 16 (by omega) 0 (fun e => absurd e (by decide))
  rw [show nI 16 + (-1) = 15 by decide] at t
  exact ⟨17, t⟩
theorem ti_put {post : St2 → Prop} (hn : kl = 1 ∨ kl = 2) (h : ∀ b6 b7 : Nat → Int32, b6 0 = a1 0 → b7 0 = kl → post (kl, bl, tot, fb, fi, 1, a1, a2, a3, a4, a5, b6, b7)) : wpX_putKeyInList post (kl, bl, tot, fb, fi, 0, a1, a2, a3, a4, a5, a6, a7) 0 := by
  refine ⟨1, br_t (by decide) ⟨3, br_f ?_ ⟨ti_in (by decide), ti_in (by decide), fun b6 e6 => nm_r (e' := 1) (by decide) ?_⟩⟩⟩
  · rcases hn with rfl | rfl <;> decide
  · have e6' : b6 0 = a1 0 := by rw [e6]; exact pk_us
    rcases hn with rfl | rfl
    · exact br_t (by decide) ⟨ti_in (by decide), fun b7 e7 => nm_r (e' := 1) (by decide) (h b6 b7 e6' (by rw [e7]; exact pk_us))⟩
    · exact br_f (by decide) ⟨ti_in (by decide), ti_in (by decide), fun c6 f6 => nm_r (e' := 2) (by decide) (br_t (by decide) ⟨ti_in (by decide), fun b7 e7 => nm_r (e' := 1) (by decide) (h c6 b7 (by rw [f6]; exact (pk_un (by decide)).trans e6') (by rw [e7]; exact pk_us))⟩)⟩
/-- the term's letters are stored: the block's end -/
theorem ti_p78e {post : St2 → Prop} {n f x8 : Int32} (k : Nat) (h7 : a7 0 = n) (hx : n ≤ x8) (h50 : a5 0 = 0) (h51 : a5 1 = n) (h52 : a5 2 = f) (h : ∀ b4 b5 : Nat → Int32, b4 0 = 1 → b5 0 = 0 → b5 1 = n → b5 2 = f → post (kl, bl, tot, fb, fi, li, a1, a2, a3, b4, b5, a6, a7)) :
    wX_pack_78 post (wX_pack_18 post 0 1 0 kl bl tot fb fi li 1) 0 1 0 0 0 0 kl bl tot fb fi li (k + 1) x8 a1 a2 a3 a4 a5 a6 a7 := by
  refine ⟨ti_in (by decide), br_t (show a7 0 ≤ x8 from h7.symm ▸ hx) ⟨ti_in (by decide), nm_e (nm_r (e' := 1) (by decide) (br_t (by decide) ⟨ti_in (by decide), fun b4 e4 => h b4 a5 ?_ h50 h51 h52⟩))⟩⟩
  rw [e4]
  refine pk_us.trans ?_
  decide
theorem ti_pack {post : St2 → Prop} {n f : Int32} (hn : n = 1 ∨ n = 2) (h2 : a2 0 = 0) (h6 : a6 0 = f) (h7 : a7 0 = n) (h : ∀ b4 b5 : Nat → Int32, b4 0 = 1 → b5 0 = 0 → b5 1 = n → b5 2 = f → post (kl, bl, tot, fb, fi, li, a1, a2, a3, b4, b5, a6, a7)) : wpX_pack post (kl, bl, tot, fb, fi, li, a1, a2, a3, a4, a5, a6, a7) 0 0 1 := by
  have hn0 : ¬ a7 0 ≤ 0 := by rw [h7]; rcases hn with rfl | rfl <;> decide
  refine ⟨ti_in (by decide), nm_r (e' := 0) h2 (nm_r (e' := 0) (by decide) ⟨2, br_f (by decide) (br_t rfl ⟨ti_in (by decide), fun b5 e5 => ⟨ti_in (by decide), ti_in (by decide), fun c5 f5 => ⟨3, ti_in (by decide), br_f hn0 ⟨ti_in (by decide), ti_in (by decide), fun d5 g5 => nm_r (e' := 1) (by decide) ?_⟩⟩⟩⟩)⟩)⟩
  have b0 : b5 0 = 0 := by rw [e5]; exact pk_us
  have c0 : c5 0 = 0 := by rw [f5]; exact (pk_un (by decide)).trans b0
  have c1 : c5 1 = n := by
    rw [f5]
    refine pk_us.trans ?_
    show a7 0 - 0 = n
    rw [h7, Int32.sub_zero]
  have d0 : d5 0 = 0 := by rw [g5]; exact (pk_un (by decide)).trans c0
  have d1 : d5 1 = n := by rw [g5]; exact (pk_un (by decide)).trans c1
  have d2 : d5 2 = f := by rw [g5]; exact pk_us.trans h6
  rcases hn with rfl | rfl
  · exact ti_p78e 1 h7 (by decide) d0 d1 d2 h
  · refine ⟨ti_in (by decide), br_f (show ¬ a7 0 ≤ 1 by rw [h7]; decide) ⟨ti_in (by decide), ti_in (by decide), fun x5 y5 => nm_r (e' := 2) (by decide) (ti_p78e 0 h7 (by decide) ?_ ?_ ?_ h)⟩⟩
    · rw [y5]; exact (pk_un (by decide)).trans d0
    · rw [y5]; exact (pk_un (by decide)).trans d1
    · rw [y5]; exact (pk_un (by decide)).trans d2
theorem ti_store {post : St2 → Prop} {n f : Int32} (hn : n = 1 ∨ n = 2) (h2 : a2 0 = 0) (h6 : a6 0 = f) (h7 : a7 0 = n) (h : ∀ b4 b5 : Nat → Int32, b4 0 = 1 → b5 0 = 0 → b5 1 = n → b5 2 = f → post (kl, bl, tot, fb, fi, 1, a1, a2, a3, b4, b5, a6, a7)) : wpX_storeList post (kl, bl, tot, fb, fi, 1, a1, a2, a3, a4, a5, a6, a7) 0 1 :=
  br_f (by decide) (br_f (by decide) (br_t (by decide) (br_t (by decide) (br_t (by decide) (br_t rfl (ti_pack hn h2 h6 h7 h))))))
end
end
section
section
variable {kl bl tot fb fi li : Int32} {a1 a2 a3 a4 a5 a6 a7 : Nat → Int32}
/-! ===== held ===== -/
theorem ti_held0 {post : Int32 → St2 → Prop} (h : post 0 (kl, 0, 0, 0, 0, li, a1, a2, a3, a4, a5, a6, a7)) : wpX_held post (kl, 0, 0, fb, fi, li, a1, a2, a3, a4, a5, a6, a7) :=
  ti_count0 (br_c (fun _ => h) (fun _ => br_f (by decide) h))
/-- r: whether the key is the term -/
def ti_H (kl n f o r : Int32) : Prop := (kl = 0 ∧ r = 0) ∨ (kl = 1 ∧ f = o ∧ n = 1 ∧ r = 1) ∨ (kl = 1 ∧ f = o ∧ n = 2 ∧ r = 0) ∨ (kl = 1 ∧ ¬ f = o ∧ r = 0)
theorem ti_heldA {post : Int32 → St2 → Prop} {n f m r : Int32} (hP : ti_P n f a2 a4 a5) (hM : ti_M 1 f (a1 0) m) (hV : ti_V 1 f (a1 0) 0 0) (hr : (n = 1 ∧ m = r) ∨ (n = 2 ∧ r = 0)) (hr01 : r = 0 ∨ r = 1)
    (h : ∀ (v l : Int32) (b6 b7 : Nat → Int32), post r (1, 1, 1, 0, v, l, a1, a2, a3, a4, a5, b6, b7)) : wpX_held post (1, 1, 1, fb, fi, li, a1, a2, a3, a4, a5, a6, a7) := by
  refine ti_count hP (Or.inl rfl) hV (br_f (by decide) (br_t (by decide) (ti_bor hP (ti_unpack hP (fun b6 b7 e6 e7 => ti_tb (nm_r (e' := 0) (by decide) ⟨ti_in (by decide), ?_⟩))))))
  rcases hr with ⟨rfl, rfl⟩ | ⟨rfl, rfl⟩
  · refine br_t e7 (ti_swk (Or.inl rfl) e6 e7 hM ?_)
    rcases hr01 with rfl | rfl
    · exact br_f (by decide) (h _ _ _ _)
    · exact br_t rfl (h _ _ _ _)
  · exact br_f (show ¬ b7 0 = 1 by rw [e7]; decide) (h _ _ _ _)
theorem ti_held {post : Int32 → St2 → Prop} {n f v r : Int32} (hP : ti_P n f a2 a4 a5) (hV : ti_V kl f (a1 0) 0 v) (hH : ti_H kl n f (a1 0) r)
    (h : ∀ (v l : Int32) (b6 b7 : Nat → Int32), post r (kl, 1, 1, 0, v, l, a1, a2, a3, a4, a5, b6, b7)) : wpX_held post (kl, 1, 1, fb, fi, li, a1, a2, a3, a4, a5, a6, a7) := by
  rcases hH with ⟨rfl, rfl⟩ | ⟨rfl, e, hn, rfl⟩ | ⟨rfl, e, hn, rfl⟩ | ⟨rfl, e, rfl⟩
  · exact ti_count hP (Or.inl rfl) hV (br_t rfl (h _ _ _ _))
  · exact ti_heldA hP (Or.inr (Or.inl ⟨rfl, e, rfl⟩)) (Or.inr (Or.inl ⟨rfl, e, rfl⟩)) (Or.inl ⟨hn, rfl⟩) (Or.inr rfl) h
  · exact ti_heldA hP (Or.inr (Or.inl ⟨rfl, e, rfl⟩)) (Or.inr (Or.inl ⟨rfl, e, rfl⟩)) (Or.inr ⟨hn, rfl⟩) (Or.inl rfl) h
  · by_cases hl : a1 0 ≤ f
    · refine ti_heldA hP (Or.inr (Or.inr ⟨rfl, e, rfl⟩)) (Or.inr (Or.inr (Or.inl ⟨rfl, e, hl, rfl⟩))) ?_ (Or.inl rfl) h
      rcases hP.1 with z | z
      · exact Or.inl ⟨z, rfl⟩
      · exact Or.inr ⟨z, rfl⟩
    · exact ti_count hP (Or.inl rfl) (Or.inr (Or.inr (Or.inr ⟨rfl, e, hl, rfl⟩))) (br_f (by decide) (br_f (by decide) (h _ _ _ _)))
/-! ===== insert ===== -/
theorem ti_i53 {post : Int32 → St2 → Prop} (hn : kl = 1 ∨ kl = 2) (h2 : a2 0 = 0) (h4 : a4 0 = 0) (h : ∀ b4 b5 b6 b7 : Nat → Int32, ti_P kl (a1 0) a2 b4 b5 → post 0 (kl, 1, 1, 0, 0, 1, a1, a2, a3, b4, b5, b6, b7)) : wX_insert_53 post 0 kl 1 0 0 0 li a1 a2 a3 a4 a5 a6 a7 :=
  ti_unpack0 h2 h4 (ti_put hn (fun b6 b7 e6 e7 => ti_store hn h2 e6 e7 (fun b4 b5 e4 e50 e51 e52 => nm_r (e' := 1) (by decide) (h b4 b5 b6 b7 ⟨hn, h2, e4, e50, e51, e52⟩))))
theorem ti_insert {post : Int32 → St2 → Prop} (hn : kl = 1 ∨ kl = 2) (h3 : ∀ j, j < 16 → a3 j = 0) (h : ∀ b2 b3 b4 b5 b6 b7 : Nat → Int32, ti_P kl (a1 0) b2 b4 b5 → post 0 (kl, 1, 1, 0, 0, 1, a1, b2, b3, b4, b5, b6, b7)) : wpX_insert post (kl, 0, 0, fb, fi, li, a1, a2, a3, a4, a5, a6, a7) := by
  refine br_f ?_ (br_f (by decide) (ti_held0 (br_t rfl (ti_count0 (br_t rfl (ti_open h3 (ti_i53 hn pk_us pk_us (fun b4 b5 b6 b7 => h _ _ b4 b5 b6 b7))))))))
  rcases hn with rfl | rfl <;> decide
/-! ===== beginning, before, common ===== -/
theorem ti_begin {post : Int32 → St2 → Prop} {n f v w r : Int32} (hP : ti_P n f a2 a4 a5) (hV : ti_V kl f (a1 0) 1 v) (hW : ti_V kl f (a1 0) 0 w) (hr : v - w = r) (h : post r (kl, 1, tot, 0, w, li, a1, a2, a3, a4, a5, a6, a7)) : wpX_beginning post (kl, 1, tot, fb, fi, li, a1, a2, a3, a4, a5, a6, a7) := by
  subst hr
  exact ti_count hP (Or.inr rfl) hV (ti_count hP (Or.inl rfl) hW h)
theorem ti_begin0 {post : Int32 → St2 → Prop} (h : post 0 (kl, 0, tot, 0, 0, li, a1, a2, a3, a4, a5, a6, a7)) : wpX_beginning post (kl, 0, tot, fb, fi, li, a1, a2, a3, a4, a5, a6, a7) :=
  ti_count0 (ti_count0 (sb_at (P := fun r => post r (kl, 0, tot, 0, 0, li, a1, a2, a3, a4, a5, a6, a7)) (show (0 : Int32) - 0 = 0 by decide) h))
theorem ti_before {post : Int32 → St2 → Prop} {n f w : Int32} (hP : ti_P n f a2 a4 a5) (hW : ti_V kl f (a1 0) 0 w) (h : post w (kl, 1, tot, 0, w, li, a1, a2, a3, a4, a5, a6, a7)) : wpX_before post (kl, 1, tot, fb, fi, li, a1, a2, a3, a4, a5, a6, a7) :=
  ti_count hP (Or.inl rfl) hW h
theorem ti_before0 {post : Int32 → St2 → Prop} (h : post 0 (kl, 0, tot, 0, 0, li, a1, a2, a3, a4, a5, a6, a7)) : wpX_before post (kl, 0, tot, fb, fi, li, a1, a2, a3, a4, a5, a6, a7) :=
  ti_count0 h
theorem ti_sar {post : Int32 → St2 → Prop} {n f m : Int32} (hP : ti_P n f a2 a4 a5) (hM : ti_M kl f (a1 0) m) (h : ∀ b6 b7 : Nat → Int32, post m (kl, 1, tot, fb, fi, 1, a1, a2, a3, a4, a5, b6, b7)) : wpX_sharedAtRank post (kl, 1, tot, fb, fi, li, a1, a2, a3, a4, a5, a6, a7) 0 :=
  ti_bor hP (ti_unpack hP (fun b6 b7 e6 e7 => ti_tb (nm_r (e' := 0) (by decide) (ti_swk hP.1 e6 e7 hM (h b6 b7)))))
theorem ti_common0 {post : Int32 → St2 → Prop} (h : post (-1) (kl, bl, 0, fb, fi, li, a1, a2, a3, a4, a5, a6, a7)) : wpX_common post (kl, bl, 0, fb, fi, li, a1, a2, a3, a4, a5, a6, a7) :=
  br_t rfl h
/-- the term isn't less: the key's common part with it -/
theorem ti_commonA {post : Int32 → St2 → Prop} {n f m : Int32} (hP : ti_P n f a2 a4 a5) (hM : ti_M kl f (a1 0) m) (hV : ti_V kl f (a1 0) 0 0) (h : ∀ u, post m u) : wpX_common post (kl, 1, 1, fb, fi, li, a1, a2, a3, a4, a5, a6, a7) := by
  have h0 : 0 ≤ m := by rcases hM with ⟨_, rfl⟩ | ⟨_, _, rfl⟩ | ⟨_, _, rfl⟩ <;> decide
  exact br_f (by decide) (ti_count hP (Or.inl rfl) hV (br_t (by decide) (br_f (by decide) (ti_sar hP hM (fun b6 b7 => br_t h0 (h _))))))
/-- the term is less: nothing in common -/
theorem ti_commonB {post : Int32 → St2 → Prop} {n f : Int32} (hP : ti_P n f a2 a4 a5) (hM : ti_M kl f (a1 0) 0) (hV : ti_V kl f (a1 0) 0 1) (h : ∀ u, post 0 u) : wpX_common post (kl, 1, 1, fb, fi, li, a1, a2, a3, a4, a5, a6, a7) := by
  refine br_f (by decide) (ti_count hP (Or.inl rfl) hV (br_f (by decide) ?_))
  rw [show (1 : Int32) - 1 = 0 by decide]
  exact ti_sar hP hM (fun b6 b7 => br_t (by decide) (br_t (by decide) (h _)))
end
end
section
section
variable {mc ms kc ks : Nat} {kl fb fi li : Int32} {a1 a2 a3 a4 a5 a6 a7 : Nat → Int32}
/-! ===== the law's end: the index holds one term, of n letters, the first of them f ===== -/
theorem ti_308 {x : Int32} : wL_lawOf_308 (fun r _ => r = 1) mc ms x x kc ks := br_t rfl (rfl : (1 : Int32) = 1)
/-- beginning's check passes; what stands behind it is left -/
theorem ti_199 {x2 x6 x7 x8 z n f v w r : Int32} (hP : ti_P n f a2 a4 a5) (hV : ti_V kl f (a1 0) 1 v) (hW : ti_V kl f (a1 0) 0 w) (hr : v - w = r) (hz : (z = 0 ∧ r = 0) ∨ (z = 1 ∧ r = 1))
    (h : wL_lawOf_215 (fun r _ => r = 1) mc ms x2 x6 x7 x8 r r kc ks kl 1 1 0 w li a1 a2 a3 a4 a5 a6 a7) : wL_lawOf_199 (fun r _ => r = 1) mc ms x2 x6 x7 x8 z kc ks kl 1 1 fb fi li a1 a2 a3 a4 a5 a6 a7 := by
  unfold wL_lawOf_199
  refine ti_begin hP hV hW hr ?_
  rcases hz with ⟨rfl, e⟩ | ⟨rfl, e⟩
  · rw [e] at h ⊢
    exact br_t rfl h
  · rw [e] at h ⊢
    exact br_f (by decide) h
theorem ti_194 {x2 x6 x7 x8 n f v w : Int32} (hP : ti_P n f a2 a4 a5) (hV : ti_V kl f (a1 0) 1 v) (hW : ti_V kl f (a1 0) 0 w) (hr : v - w = 1)
    (h : wL_lawOf_215 (fun r _ => r = 1) mc ms x2 x6 x7 x8 1 1 kc ks kl 1 1 0 w li a1 a2 a3 a4 a5 a6 a7) : wL_lawOf_194 (fun r _ => r = 1) mc ms x2 x6 x7 x8 kc ks kl 1 1 fb fi li a1 a2 a3 a4 a5 a6 a7 := by
  unfold wL_lawOf_194
  exact ti_199 hP hV hW hr (Or.inr ⟨rfl, rfl⟩) h
theorem ti_198 {x2 x6 x7 x8 n f v w : Int32} (hP : ti_P n f a2 a4 a5) (hV : ti_V kl f (a1 0) 1 v) (hW : ti_V kl f (a1 0) 0 w) (hr : v - w = 0)
    (h : wL_lawOf_215 (fun r _ => r = 1) mc ms x2 x6 x7 x8 0 0 kc ks kl 1 1 0 w li a1 a2 a3 a4 a5 a6 a7) : wL_lawOf_198 (fun r _ => r = 1) mc ms x2 x6 x7 x8 kc ks kl 1 1 fb fi li a1 a2 a3 a4 a5 a6 a7 := by
  unfold wL_lawOf_198
  exact ti_199 hP hV hW hr (Or.inl ⟨rfl, rfl⟩) h
theorem ti_198E {x2 x6 x7 x8 : Int32} (h : wL_lawOf_215 (fun r _ => r = 1) mc ms x2 x6 x7 x8 0 0 kc ks kl 0 0 0 0 li a1 a2 a3 a4 a5 a6 a7) : wL_lawOf_198 (fun r _ => r = 1) mc ms x2 x6 x7 x8 kc ks kl 0 0 fb fi li a1 a2 a3 a4 a5 a6 a7 := by
  unfold wL_lawOf_198 wL_lawOf_199
  exact ti_begin0 (br_t rfl h)
/-- nothing is typed -/
theorem ti_end0 {x2 n f : Int32} (hP : ti_P n f a2 a4 a5) : wL_lawOf_176 (fun r _ => r = 1) mc ms x2 n 0 f kc ks 0 1 1 fb fi li a1 a2 a3 a4 a5 a6 a7 := by
  have hn0 : ¬ n ≤ 0 := by rcases hP.1 with z | z <;> rw [z] <;> decide
  have hz : ¬ n = 0 := by rcases hP.1 with z | z <;> rw [z] <;> decide
  have hV : ti_V 0 f (a1 0) 1 1 := Or.inl ⟨rfl, rfl⟩
  have hW : ti_V 0 f (a1 0) 0 0 := Or.inl ⟨rfl, rfl⟩
  have hM : ti_M 0 f (a1 0) 0 := Or.inl ⟨rfl, rfl⟩
  refine br_f hn0 (br_t rfl (ti_194 hP hV hW (by decide) ((br_t rfl (ti_before hP hW (br_f hn0 (br_t rfl (br_t rfl (ti_held hP hW (Or.inl ⟨rfl, rfl⟩) (fun v l b6 b7 => ?_))))))))))
  have C : wL_lawOf_275 (fun r _ => r = 1) mc ms x2 n 0 f 0 kc ks 0 1 1 0 v l a1 a2 a3 a4 a5 b6 b7 :=
    br_t rfl (ti_commonA hP hM hW (fun u => br_f hz (br_t rfl ti_308)))
  exact br_c (fun _ => br_t rfl C) (fun _ => C)
/-- the letter typed is the term's first -/
theorem ti_end1 {x2 n f : Int32} (hP : ti_P n f a2 a4 a5) (ho : a1 0 = x2) (he : x2 = f) : wL_lawOf_176 (fun r _ => r = 1) mc ms x2 n 1 f kc ks 1 1 1 fb fi li a1 a2 a3 a4 a5 a6 a7 := by
  have hn0 : ¬ n ≤ 0 := by rcases hP.1 with z | z <;> rw [z] <;> decide
  have hz : ¬ n = 0 := by rcases hP.1 with z | z <;> rw [z] <;> decide
  have hf : f = a1 0 := (ho.trans he).symm
  have hV : ti_V 1 f (a1 0) 1 1 := Or.inr (Or.inl ⟨rfl, hf, rfl⟩)
  have hW : ti_V 1 f (a1 0) 0 0 := Or.inr (Or.inl ⟨rfl, hf, rfl⟩)
  have hM : ti_M 1 f (a1 0) 1 := Or.inr (Or.inl ⟨rfl, hf, rfl⟩)
  have hle : x2 ≤ f := by rw [he]; exact Int32.le_refl f
  have C : ∀ z v l b6 b7, wL_lawOf_276 (fun r _ => r = 1) mc ms x2 n 1 f z z kc ks 1 1 1 0 v l a1 a2 a3 a4 a5 b6 b7 := fun z v l b6 b7 =>
    br_t rfl (ti_commonA hP hM hW (fun u => br_f hz (br_f (by decide) (br_t he ti_308))))
  rcases hP.1 with hn | hn
  · refine br_f hn0 (br_f (by decide) (br_t he (ti_194 hP hV hW (by decide) ((br_t rfl (ti_before hP hW (br_f hn0 (br_f (by decide) (br_t hle (br_t rfl (ti_held hP hW (Or.inr (Or.inl ⟨rfl, hf, hn, rfl⟩)) (fun v l b6 b7 => ?_))))))))))))
    exact br_t hn (br_f (by decide) (br_t he (C 1 v l b6 b7)))
  · refine br_f hn0 (br_f (by decide) (br_t he (ti_194 hP hV hW (by decide) ((br_t rfl (ti_before hP hW (br_f hn0 (br_f (by decide) (br_t hle (br_t rfl (ti_held hP hW (Or.inr (Or.inr (Or.inl ⟨rfl, hf, hn, rfl⟩))) (fun v l b6 b7 => ?_))))))))))))
    exact br_f (by rw [hn]; decide) (C 0 v l b6 b7)
/-- the letter typed is another, and not behind the term's first -/
theorem ti_end2 {x2 n f : Int32} (hP : ti_P n f a2 a4 a5) (ho : a1 0 = x2) (he : ¬ x2 = f) (hle : x2 ≤ f) : wL_lawOf_176 (fun r _ => r = 1) mc ms x2 n 1 f kc ks 1 1 1 fb fi li a1 a2 a3 a4 a5 a6 a7 := by
  have hn0 : ¬ n ≤ 0 := by rcases hP.1 with z | z <;> rw [z] <;> decide
  have hz : ¬ n = 0 := by rcases hP.1 with z | z <;> rw [z] <;> decide
  have hf : ¬ f = a1 0 := fun z => he (ho.symm.trans z.symm)
  have hl : a1 0 ≤ f := by rw [ho]; exact hle
  have hV : ti_V 1 f (a1 0) 1 0 := Or.inr (Or.inr (Or.inl ⟨rfl, hf, hl, rfl⟩))
  have hW : ti_V 1 f (a1 0) 0 0 := Or.inr (Or.inr (Or.inl ⟨rfl, hf, hl, rfl⟩))
  have hM : ti_M 1 f (a1 0) 0 := Or.inr (Or.inr ⟨rfl, hf, rfl⟩)
  refine br_f hn0 (br_f (by decide) (br_f he (ti_198 hP hV hW (by decide) ((br_t rfl (ti_before hP hW (br_f hn0 (br_f (by decide) (br_t hle (br_t rfl (ti_held hP hW (Or.inr (Or.inr (Or.inr ⟨rfl, hf, rfl⟩))) (fun v l b6 b7 => ?_))))))))))))
  have C : wL_lawOf_275 (fun r _ => r = 1) mc ms x2 n 1 f 0 kc ks 1 1 1 0 v l a1 a2 a3 a4 a5 b6 b7 :=
    br_t rfl (ti_commonA hP hM hW (fun u => br_f hz (br_f (by decide) (br_f he ti_308))))
  exact br_c (fun _ => br_f (by decide) (br_f he C)) (fun _ => C)
/-- .. and behind it -/
theorem ti_end3 {x2 n f : Int32} (hP : ti_P n f a2 a4 a5) (ho : a1 0 = x2) (he : ¬ x2 = f) (hle : ¬ x2 ≤ f) : wL_lawOf_176 (fun r _ => r = 1) mc ms x2 n 1 f kc ks 1 1 1 fb fi li a1 a2 a3 a4 a5 a6 a7 := by
  have hn0 : ¬ n ≤ 0 := by rcases hP.1 with z | z <;> rw [z] <;> decide
  have hz : ¬ n = 0 := by rcases hP.1 with z | z <;> rw [z] <;> decide
  have hf : ¬ f = a1 0 := fun z => he (ho.symm.trans z.symm)
  have hl : ¬ a1 0 ≤ f := by rw [ho]; exact hle
  have hV : ti_V 1 f (a1 0) 1 1 := Or.inr (Or.inr (Or.inr ⟨rfl, hf, hl, rfl⟩))
  have hW : ti_V 1 f (a1 0) 0 1 := Or.inr (Or.inr (Or.inr ⟨rfl, hf, hl, rfl⟩))
  have hM : ti_M 1 f (a1 0) 0 := Or.inr (Or.inr ⟨rfl, hf, rfl⟩)
  refine br_f hn0 (br_f (by decide) (br_f he (ti_198 hP hV hW (by decide) ((br_t rfl (ti_before hP hW (br_f hn0 (br_f (by decide) (br_f hle (br_t rfl (ti_held hP hW (Or.inr (Or.inr (Or.inr ⟨rfl, hf, rfl⟩))) (fun v l b6 b7 => ?_))))))))))))
  have C : wL_lawOf_275 (fun r _ => r = 1) mc ms x2 n 1 f 0 kc ks 1 1 1 0 v l a1 a2 a3 a4 a5 b6 b7 :=
    br_t rfl (ti_commonB hP hM hW (fun u => br_f hz (br_f (by decide) (br_f he ti_308))))
  exact br_c (fun _ => br_f (by decide) (br_f he C)) (fun _ => C)
/-- the index is empty -/
theorem ti_endE {x2 x7 z : Int32} : wL_lawOf_176 (fun r _ => r = 1) mc ms x2 0 x7 z kc ks kl 0 0 fb fi li a1 a2 a3 a4 a5 a6 a7 :=
  br_t (by decide) (ti_198E ((br_t rfl (ti_before0 (br_t (by decide) (br_t rfl (ti_held0 (br_f (by decide) (br_t rfl (ti_common0 (br_t rfl ti_308)))))))))))
/-! ===== behind insert ===== -/
/-- erase and the third letter, over an empty index -/
theorem ti_118E {x2 x4 x5 : Int32} : wL_lawOf_118 (fun r _ => r = 1) mc ms x2 x4 x5 0 (-1) (-1) kc ks kl 0 0 fb fi li a1 a2 a3 a4 a5 a6 a7 := by
  have B : (x2 < 0 ∨ 9 < x2) → wL_lawOf_142 (fun r _ => r = 1) mc ms x2 x4 x5 0 0 kc ks 0 0 0 fb fi li a1 a2 a3 a4 a5 a6 a7 := fun hb =>
    ti_typeBad hb (br_t rfl (br_t rfl (br_c (fun _ => ti_endE) (fun _ => ti_endE))))
  exact br_t rfl (br_c (fun z => B (Or.inl z)) (fun z => br_c (fun y => B (Or.inr y)) (fun y => ti_type0 z y (fun a _ => br_f (by decide) (br_t rfl (br_c (fun _ => ti_endE) (fun _ => ti_endE)))))))
/-- .. over an index of one term -/
theorem ti_118 {x2 x4 x5 n f : Int32} (hP : ti_P n f a2 a4 a5) (hf : (x4 < 0 ∧ x5 = f) ∨ (¬ x4 < 0 ∧ x4 = f)) : wL_lawOf_118 (fun r _ => r = 1) mc ms x2 x4 x5 n 0 0 kc ks kl 1 1 fb fi li a1 a2 a3 a4 a5 a6 a7 := by
  have F : ∀ x7 k b1, wL_lawOf_176 (fun r _ => r = 1) mc ms x2 n x7 f kc ks k 1 1 fb fi li b1 a2 a3 a4 a5 a6 a7 → ∀ z, wL_lawOf_159 (fun r _ => r = 1) mc ms x2 x4 x5 n x7 z z kc ks k 1 1 fb fi li b1 a2 a3 a4 a5 a6 a7 := by
    intro x7 k b1 H z
    rcases hf with ⟨h4, rfl⟩ | ⟨h4, rfl⟩
    · exact br_t rfl (br_t h4 H)
    · exact br_t rfl (br_f h4 H)
  have B : (x2 < 0 ∨ 9 < x2) → wL_lawOf_142 (fun r _ => r = 1) mc ms x2 x4 x5 n 0 kc ks 0 1 1 fb fi li a1 a2 a3 a4 a5 a6 a7 := fun hb =>
    ti_typeBad hb (br_t rfl (F _ _ _ (ti_end0 hP) _))
  refine br_t rfl (br_c (fun z => B (Or.inl z)) (fun z => br_c (fun y => B (Or.inr y)) (fun y => ti_type0 z y (fun a ea => br_f (by decide) (F _ _ _ ?_ _)))))
  by_cases he : x2 = f
  · exact ti_end1 hP ea he
  · by_cases hl : x2 ≤ f
    · exact ti_end2 hP ea he hl
    · exact ti_end3 hP ea he hl
/-- insert, over one or two letters -/
theorem ti_99 {x2 x4 x5 n z : Int32} (hn : n = 1 ∨ n = 2) (h3 : ∀ j, j < 16 → a3 j = 0) (hf : (x4 < 0 ∧ x5 = a1 0) ∨ (¬ x4 < 0 ∧ x4 = a1 0)) : wL_lawOf_99 (fun r _ => r = 1) mc ms x2 x4 x5 n z z kc ks n 0 0 fb fi li a1 a2 a3 a4 a5 a6 a7 := by
  refine br_t rfl (ti_insert hn h3 (fun b2 b3 b4 b5 b6 b7 hP => br_f ?_ (ti_118 hP hf)))
  rcases hn with rfl | rfl <;> decide
/-- .. over none -/
theorem ti_99E {x2 x4 x5 z : Int32} : wL_lawOf_99 (fun r _ => r = 1) mc ms x2 x4 x5 0 z z kc ks 0 0 0 fb fi li a1 a2 a3 a4 a5 a6 a7 :=
  br_t rfl (br_t rfl (br_t (by decide) ti_118E))
end
end
section
section
variable {mc ms kc ks : Nat} {fb fi li : Int32} {a1 a2 a3 a4 a5 a6 a7 : Nat → Int32}
/-! ===== the two letters that are typed first: a good one or a bad one, each ===== -/
theorem ti_40bb {p q x2 : Int32} (hp : p < 0 ∨ 9 < p) (hq : q < 0 ∨ 9 < q) : wL_lawOf_40 (fun r _ => r = 1) mc ms p q x2 (-1) (-1) kc ks 0 0 0 fb fi li a1 a2 a3 a4 a5 a6 a7 :=
  br_t (by decide) (br_t (by decide) (nm_r (e' := 0) (by decide) (ti_typeBad hp (br_t (by decide) (br_t rfl (ti_typeBad hq (br_t (by decide) ti_99E)))))))
theorem ti_40gb {p q x2 : Int32} (h3 : ∀ j, j < 16 → a3 j = 0) (h0 : ¬ p < 0) (h9 : ¬ 9 < p) (hq : q < 0 ∨ 9 < q) : wL_lawOf_40 (fun r _ => r = 1) mc ms p q x2 p (-1) kc ks 0 0 0 fb fi li a1 a2 a3 a4 a5 a6 a7 :=
  br_f h0 (br_t (by decide) (nm_r (e' := 1) (by decide) (ti_type0 h0 h9 (fun a ea => br_f h0 (br_t rfl (ti_typeBad hq (br_t (by decide) (ti_99 (Or.inl rfl) h3 (Or.inr ⟨h0, ea.symm⟩)))))))))
theorem ti_40bg {p q x2 : Int32} (h3 : ∀ j, j < 16 → a3 j = 0) (hp : p < 0 ∨ 9 < p) (h0 : ¬ q < 0) (h9 : ¬ 9 < q) : wL_lawOf_40 (fun r _ => r = 1) mc ms p q x2 (-1) q kc ks 0 0 0 fb fi li a1 a2 a3 a4 a5 a6 a7 :=
  br_t (by decide) (br_f h0 (nm_r (e' := 1) (by decide) (ti_typeBad hp (br_t (by decide) (br_t rfl (ti_type0 h0 h9 (fun a ea => br_f h0 (ti_99 (Or.inl rfl) h3 (Or.inl ⟨by decide, ea.symm⟩)))))))))
theorem ti_40gg {p q x2 : Int32} (h3 : ∀ j, j < 16 → a3 j = 0) (p0 : ¬ p < 0) (p9 : ¬ 9 < p) (h0 : ¬ q < 0) (h9 : ¬ 9 < q) : wL_lawOf_40 (fun r _ => r = 1) mc ms p q x2 p q kc ks 0 0 0 fb fi li a1 a2 a3 a4 a5 a6 a7 :=
  br_f p0 (br_f h0 (nm_r (e' := 2) (by decide) (ti_type0 p0 p9 (fun a ea => br_f p0 (br_t rfl (ti_type1 h0 h9 (fun b eb => br_f h0 (ti_99 (Or.inr rfl) h3 (Or.inr ⟨p0, (eb.trans ea).symm⟩)))))))))
theorem ti_23b {p q x2 : Int32} (h3 : ∀ j, j < 16 → a3 j = 0) (hp : p < 0 ∨ 9 < p) : wL_lawOf_23 (fun r _ => r = 1) mc ms p q x2 (-1) kc ks 0 0 0 fb fi li a1 a2 a3 a4 a5 a6 a7 :=
  br_c (fun z => ti_40bb hp (Or.inl z)) (fun z => br_c (fun y => ti_40bb hp (Or.inr y)) (fun y => ti_40bg h3 hp z y))
theorem ti_23g {p q x2 : Int32} (h3 : ∀ j, j < 16 → a3 j = 0) (h0 : ¬ p < 0) (h9 : ¬ 9 < p) : wL_lawOf_23 (fun r _ => r = 1) mc ms p q x2 p kc ks 0 0 0 fb fi li a1 a2 a3 a4 a5 a6 a7 :=
  br_c (fun z => ti_40gb h3 h0 h9 (Or.inl z)) (fun z => br_c (fun y => ti_40gb h3 h0 h9 (Or.inr y)) (fun y => ti_40gg h3 h0 h9 z y))
end
theorem ti_lawOf (p q o : Int32) : wpL_lawOf (fun r _ => r = 1) 8 947 () p q o :=
  ⟨by decide, by decide, 7, 934, by decide, by decide, by decide, by decide, by decide, by decide, by decide, by decide, by decide, by decide, by decide, by decide, by decide, by decide, by decide, by decide,
    br_c (fun z => ti_23b (fun _ _ => rfl) (Or.inl z)) (fun z => br_c (fun y => ti_23b (fun _ _ => rfl) (Or.inr y)) (fun y => ti_23g (fun _ _ => rfl) z y))⟩
theorem ti_cell {post : Int32 → Prop} {L : Nat} {xs : Nat → Int32} {x : Int32} (k : Nat) (hx : x = nI k) (hk : k < 3) (hL : L ≤ 3) (h : ∀ r, post r) : wpL_cellAt post L xs () x := by
  subst hx
  exact pk_le L k (fun _ => h _) (fun z => ⟨pk_in k L z, h _⟩)
theorem i_vc (xs : Nat → Int32) (L : Nat) (hL : L ≤ 3) : wpL_law (fun r => r = 1) L xs :=
  ti_cell 0 rfl (by decide) hL (fun p => ti_cell 1 rfl (by decide) hL (fun q => ti_cell 2 rfl (by decide) hL (fun o => ⟨8, 947, by decide, by decide, ti_lawOf p q o⟩)))
end
