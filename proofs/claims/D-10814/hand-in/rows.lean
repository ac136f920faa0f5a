section
/-! single facts about small ints and places -/
theorem ti_v {i : Int32} {n : Nat} (h : ¬ (i < 0 ∨ n ≤ i.toNatClampNeg)) : vp_in i n := h
theorem ti_c0 : (0 : Int32).toNatClampNeg = 0 := by decide
theorem ti_c01 : ((0 : Int32) + 1).toNatClampNeg = 1 := by decide
theorem ti_c020 : ((0 : Int32) + 2 + 0).toNatClampNeg = 2 := by decide
theorem ti_c0200 : ((0 : Int32) + 2 + 0 - 0).toNatClampNeg = 2 := by decide
theorem ti_c600 : ((6 : Int32) * 0 + 0).toNatClampNeg = 0 := by decide
theorem ti_c6000 : ((6 : Int32) * 0 + 0 + 0).toNatClampNeg = 0 := by decide
/-- the picture: one block, slot 0, that holds the term of the one letter x; the key is that term -/
def ti_G (x : Int32) (a1 a2 a4 a5 : Nat → Int32) : Prop := a1 0 = x ∧ a2 0 = 0 ∧ a4 0 = 1 ∧ a5 0 = 0 ∧ a5 1 = 1 ∧ a5 2 = x
section
variable {k b t fb fi l x : Int32} {a1 a2 a3 a4 a5 a6 a7 : Nat → Int32}
/-! searching, no block -/
theorem ti_before {post : Int32 → Prop} (h : post 0) : wpX_termsBefore post (k, b, t, fb, fi, l, a1, a2, a3, a4, a5, a6, a7) 0 :=
  ⟨0 + 1, br_t (by decide) h⟩
theorem ti_less92 {post : Int32 → St2 → Prop} (h : post 0 (k, b, t, 0, 0, l, a1, a2, a3, a4, a5, a6, a7)) : wX_countLess_92 post 0 k b t 0 fi l a1 a2 a3 a4 a5 a6 a7 := by
  unfold wX_countLess_92
  refine ti_before ?_
  rw [show (0 : Int32) + 0 = 0 by decide]
  exact h
theorem ti_less55 {post : Int32 → St2 → Prop} {p : Int32} (h : post 0 (k, b, t, 0, 0, l, a1, a2, a3, a4, a5, a6, a7)) : wX_countLess_55 post p 0 k b t fb fi l a1 a2 a3 a4 a5 a6 a7 :=
  br_t (by decide) (br_t (by decide) (ti_less92 h))
theorem ti_less0 {post : Int32 → St2 → Prop} (h : post 0 (k, 0, t, 0, 0, l, a1, a2, a3, a4, a5, a6, a7)) : wpX_countLess post (k, 0, t, fb, fi, l, a1, a2, a3, a4, a5, a6, a7) 0 :=
  ⟨0 + 1, br_f (by decide) (br_t (by decide) (ti_less55 h))⟩
theorem ti_held0 {post : Int32 → St2 → Prop} (h : post 0 (k, 0, 0, 0, 0, l, a1, a2, a3, a4, a5, a6, a7)) : wpX_held post (k, 0, 0, fb, fi, l, a1, a2, a3, a4, a5, a6, a7) := by
  unfold wpX_held
  refine ti_less0 ?_
  exact br_c (fun _ => h) (fun _ => br_f (by decide) h)
/-! the first block opened -/
theorem ti_open {post : St2 → Prop} (ha : ∀ j, a3 j = 0) (h : post (k, 1, t, fb, fi, l, a1, upd a2 0 0, upd a3 0 1, upd a4 0 0, a5, a6, a7)) : wpX_openBlock post (k, 0, t, fb, fi, l, a1, a2, a3, a4, a5, a6, a7) 0 := by
  have fin : wX_openBlock_5 post 0 k 0 t fb fi l a1 a2 a3 a4 a5 a6 a7 (0 + 1) 0 (-1) :=
    br_t (by decide) ⟨ti_v (by decide), nm_r (by rw [ti_c0]) ⟨ti_v (by decide), nm_r (by rw [ti_c0]) ⟨0 + 1, br_t (by decide) ⟨ti_v (by decide), nm_r (by rw [ti_c0]) (nm_r (by decide) h)⟩⟩⟩⟩
  have go : ∀ j, j < 16 → ∀ x2, wX_openBlock_5 post 0 k 0 t fb fi l a1 a2 a3 a4 a5 a6 a7 (j + 1 + 1) x2 (nI j) := by
    intro j
    induction j with
    | zero => exact fun _ x2 => br_f (by decide) ⟨ti_v (by decide), br_t (ha _) (nm_r (e' := -1) (by decide) fin)⟩
    | succ j ih => exact fun hj x2 => br_f (nI_pos (by omega)) ⟨vp_in_nI hj (by decide), br_t (ha _) (nm_r (pk_m1 j) (ih (by omega) _))⟩
  exact ⟨15 + 1 + 1, go 15 (by decide) 0⟩
/-! the list -/
theorem ti_unpack0 {post : St2 → Prop} (h2 : a2 0 = 0) (h4 : a4 0 = 0) (h : post (k, b, t, fb, fi, l, a1, a2, a3, a4, a5, a6, a7)) : wpX_unpack post (k, b, t, fb, fi, l, a1, a2, a3, a4, a5, a6, a7) 0 :=
  ⟨ti_v (by decide), nm_e ⟨0 + 1, ti_v (by decide), by rw [ti_c0, h2]; exact ti_v (by decide), br_t (by rw [ti_c0, h2, ti_c0, h4]; decide) h⟩⟩
theorem ti_unpack1 {post : St2 → Prop} (h2 : a2 0 = 0) (h4 : a4 0 = 1) (h50 : a5 0 = 0) (h51 : a5 1 = 1) (h52 : a5 2 = x) (h : post (k, b, t, fb, fi, 1, a1, a2, a3, a4, a5, upd a6 0 x, upd a7 0 1)) : wpX_unpack post (k, b, t, fb, fi, 0, a1, a2, a3, a4, a5, a6, a7) 0 := by
  have hs : vp_in (a2 (0 : Int32).toNatClampNeg) 16 := by
    rw [ti_c0, h2]
    exact ti_v (by decide)
  have h4' : a4 (a2 (0 : Int32).toNatClampNeg).toNatClampNeg = 1 := by rw [ti_c0, h2, ti_c0, h4]
  have h51' : a5 ((0 : Int32) + 1).toNatClampNeg = 1 := by rw [ti_c01, h51]
  have h50' : a5 (0 : Int32).toNatClampNeg = 0 := by rw [ti_c0, h50]
  have h52' : a5 ((0 : Int32) + 2 + 0).toNatClampNeg = x := by rw [ti_c020, h52]
  refine ⟨ti_v (by decide), nm_r (e' := 0) (by rw [ti_c0, h2]; decide) ⟨0 + 1 + 1, ti_v (by decide), hs, br_f (by rw [h4']; decide) ⟨0 + 1, ti_v (by decide), br_t (by rw [h50']; decide) ⟨0 + 1 + 1, ti_v (by decide), br_f (by rw [h51']; decide) ⟨ti_v (by decide), ti_v (by decide), by rw [h50']; exact ti_v (by decide), ?_⟩⟩⟩⟩⟩
  refine nm_r (e' := upd a6 0 x) (by rw [h50', ti_c6000, h52']) (nm_r (e' := 1) (by decide) ⟨ti_v (by decide), br_t (by rw [h51']; decide) ⟨ti_v (by decide), ti_v (by decide), ti_v (by decide), ?_⟩⟩)
  refine nm_r (e' := upd a7 0 1) (by rw [h50', h51', ti_c0]; rfl) (nm_r (e' := 0) (by decide) (nm_r (e' := 1) (by decide) ⟨ti_v (by decide), ?_⟩))
  exact nm_r (e' := 3) (by rw [h51']; decide) (nm_r (e' := 1) (by decide) ⟨ti_v (by decide), hs, br_t (by rw [h4']; decide) h⟩)
theorem ti_put {post : St2 → Prop} (h1 : a1 0 = x) (h : post (1, b, t, fb, fi, 1, a1, a2, a3, a4, a5, upd a6 0 x, upd a7 0 1)) : wpX_putKeyInList post (1, b, t, fb, fi, 0, a1, a2, a3, a4, a5, a6, a7) 0 :=
  ⟨0 + 1, br_t (by decide) ⟨0 + 1 + 1, br_f (by decide) ⟨ti_v (by decide), ti_v (by decide), nm_r (e' := upd a6 0 x) (by rw [ti_c600, ti_c0, h1]) (nm_r (e' := 1) (by decide) (br_t (by decide) ⟨ti_v (by decide), nm_r (e' := upd a7 0 1) (by rw [ti_c0]) (nm_r (e' := 1) (by decide) h)⟩))⟩⟩⟩
theorem ti_take {post : St2 → Prop} (h : post (k, b, t, fb, fi, 0, a1, a2, a3, a4, a5, a6, a7)) : wpX_takeFromList post (k, b, t, fb, fi, 1, a1, a2, a3, a4, a5, a6, a7) 0 :=
  ⟨0 + 1, br_t (by decide) (nm_r (e' := 0) (by decide) h)⟩
/-! blocks written and closed -/
theorem ti_pack {post : St2 → Prop} (h2 : a2 0 = 0) (h6 : a6 0 = x) (h7 : a7 0 = 1) (h : post (k, b, t, fb, fi, l, a1, a2, a3, upd a4 0 1, upd (upd (upd a5 0 0) 1 1) 2 x, a6, a7)) : wpX_pack post (k, b, t, fb, fi, l, a1, a2, a3, a4, a5, a6, a7) 0 0 1 := by
  have h7' : a7 (0 : Int32).toNatClampNeg = 1 := by rw [ti_c0, h7]
  refine ⟨ti_v (by decide), nm_r (e' := 0) (by rw [ti_c0, h2]) (nm_r (e' := 0) (by decide) ⟨0 + 1 + 1, br_f (by decide) (br_t (by decide) ⟨ti_v (by decide), nm_r (e' := upd a5 0 0) (by rw [ti_c0]) ⟨ti_v (by decide), ti_v (by decide), ?_⟩⟩)⟩)⟩
  refine nm_r (e' := upd (upd a5 0 0) 1 1) (by rw [ti_c01, h7']; rfl) ⟨0 + 1 + 1, ti_v (by decide), br_f (by rw [h7']; decide) ⟨ti_v (by decide), ti_v (by decide), ?_⟩⟩
  refine nm_r (e' := upd (upd (upd a5 0 0) 1 1) 2 x) (by rw [ti_c0200, ti_c600, h6]) (nm_r (e' := 1) (by decide) ⟨ti_v (by decide), br_t (by rw [h7']; decide) ⟨ti_v (by decide), ?_⟩⟩)
  exact nm_r (e' := 3) (by rw [h7']; decide) (nm_r (e' := 1) (by decide) (br_t (by decide) ⟨ti_v (by decide), nm_r (e' := upd a4 0 1) (by rw [ti_c0]; rfl) h⟩))
theorem ti_close {post : St2 → Prop} (h2 : a2 0 = 0) (h : post (k, 0, t, fb, fi, l, a1, a2, upd a3 0 0, a4, a5, a6, a7)) : wpX_closeBlock post (k, 1, t, fb, fi, l, a1, a2, a3, a4, a5, a6, a7) 0 :=
  ⟨ti_v (by decide), by rw [ti_c0, h2]; exact ti_v (by decide), nm_r (e' := upd a3 0 0) (by rw [ti_c0, h2, ti_c0]) ⟨0 + 1, br_t (by decide) (nm_r (e' := 0) (by decide) h)⟩⟩
theorem ti_store1 {post : St2 → Prop} (h2 : a2 0 = 0) (h6 : a6 0 = x) (h7 : a7 0 = 1) (h : post (k, b, t, fb, fi, 1, a1, a2, a3, upd a4 0 1, upd (upd (upd a5 0 0) 1 1) 2 x, a6, a7)) : wpX_storeList post (k, b, t, fb, fi, 1, a1, a2, a3, a4, a5, a6, a7) 0 1 :=
  br_f (by decide) (br_f (by decide) (br_t (by decide) (br_t (by decide) (br_t (by decide) (br_t rfl (ti_pack h2 h6 h7 h))))))
theorem ti_store0 {post : St2 → Prop} (h2 : a2 0 = 0) (h : post (k, 0, t, fb, fi, 0, a1, a2, upd a3 0 0, a4, a5, a6, a7)) : wpX_storeList post (k, 1, t, fb, fi, 0, a1, a2, a3, a4, a5, a6, a7) 0 1 :=
  br_t rfl (br_f (by decide) (ti_close h2 (br_t (by decide) (br_t (by decide) (br_f (by decide) (br_f (by decide) h))))))
/-! searching, the one block -/
theorem ti_rank {post : Int32 → Prop} (h2 : a2 0 = 0) (h4 : a4 0 = 1) (h : post 0) : wpX_blockOfRank post (k, 1, t, fb, fi, l, a1, a2, a3, a4, a5, a6, a7) 0 :=
  ⟨0 + 1, br_f (by decide) ⟨ti_v (by decide), by rw [ti_c0, h2]; exact ti_v (by decide), nm_r (e' := 1) (by rw [ti_c0, h2, ti_c0, h4]; decide) (br_f (by decide) h)⟩⟩
theorem ti_match {post : Int32 → Prop} (g : ti_G x a1 a2 a4 a5) (h : post 1) : wpX_matched post (1, b, t, fb, fi, l, a1, a2, a3, a4, a5, a6, a7) 0 0 := by
  obtain ⟨h1, h2, h4, h50, h51, h52⟩ := g
  have h50' : a5 (0 : Int32).toNatClampNeg = 0 := by rw [ti_c0, h50]
  refine ⟨ti_v (by decide), ti_v (by decide), nm_r (e' := 1) (by rw [h50', ti_c01, h51]; decide) ⟨0 + 1 + 1, br_f (by decide) (br_f (by decide) ⟨ti_v (by decide), ?_, ti_v (by decide), br_t ?_ (nm_r (e' := 1) (by decide) (br_t (by decide) h))⟩)⟩⟩
  · rw [h50']
    exact ti_v (by decide)
  · rw [h50', ti_c0200, ti_c0, h52, h1]
theorem ti_isLess {post : Int32 → Prop} (h : post 0) : wpX_isLess post (1, b, t, fb, fi, l, a1, a2, a3, a4, a5, a6, a7) 0 1 0 :=
  br_t rfl ⟨rfl, h⟩
theorem ti_head {post : Int32 → Prop} (g : ti_G x a1 a2 a4 a5) (h : post 0) : wpX_headIsLess post (1, b, t, fb, fi, l, a1, a2, a3, a4, a5, a6, a7) 0 0 :=
  ⟨ti_v (by decide), nm_r (e' := 0) (by rw [ti_c0, g.2.1]; decide) (ti_match g (ti_isLess ⟨rfl, h⟩))⟩
theorem ti_less1 {post : Int32 → St2 → Prop} (g : ti_G x a1 a2 a4 a5) (h : post 0 (1, 1, t, 0, 0, l, a1, a2, a3, a4, a5, a6, a7)) : wpX_countLess post (1, 1, t, fb, fi, l, a1, a2, a3, a4, a5, a6, a7) 0 :=
  ⟨0 + 1 + 1, br_f (by decide) (br_f (by decide) ⟨by decide, nm_r (e' := 0) (by decide) (ti_head g (br_t rfl (nm_r (e' := 1) (by decide) (br_f (by decide) (br_t (by decide) (ti_less55 h))))))⟩)⟩
theorem ti_shared {post : Int32 → Prop} (h1 : a1 0 = x) (h6 : a6 0 = x) (h7 : a7 0 = 1) (h : post 1) : wpX_sharedWithKey post (1, b, t, fb, fi, l, a1, a2, a3, a4, a5, a6, a7) 0 :=
  ⟨0 + 1 + 1, br_f (by decide) ⟨ti_v (by decide), br_f (by rw [ti_c0, h7]; decide) ⟨ti_v (by decide), ti_v (by decide), br_t (by rw [ti_c600, ti_c0, h6, h1]) (nm_r (e' := 1) (by decide) (br_t (by decide) h))⟩⟩⟩
theorem ti_held1 {post : Int32 → St2 → Prop} (g : ti_G x a1 a2 a4 a5) (h : post 1 (1, 1, 1, 0, 0, 1, a1, a2, a3, a4, a5, upd a6 0 x, upd a7 0 1)) : wpX_held post (1, 1, 1, fb, fi, l, a1, a2, a3, a4, a5, a6, a7) := by
  unfold wpX_held
  refine ti_less1 g ?_
  obtain ⟨h1, h2, h4, h50, h51, h52⟩ := g
  refine br_f (by decide) (br_t (by decide) (ti_rank h2 h4 (ti_unpack1 h2 h4 h50 h51 h52 ?_)))
  refine ti_before ?_
  refine nm_r (e' := 0) (by decide) ⟨ti_v (by decide), br_t (by rw [ti_c0]; exact pk_us) (ti_shared h1 pk_us pk_us (br_t rfl h))⟩
end
end
section
section
variable {k b t fb fi l x : Int32} {a1 a2 a3 a4 a5 a6 a7 : Nat → Int32}
/-! the public methods -/
theorem ti_insert {post : Int32 → St2 → Prop} (h1 : a1 0 = x) (h3 : ∀ j, a3 j = 0)
    (h : ∀ l b2 b3 b4 b5 b6 b7, ti_G x a1 b2 b4 b5 → post 0 (1, 1, 1, 0, 0, l, a1, b2, b3, b4, b5, b6, b7)) : wpX_insert post (1, 0, 0, fb, fi, l, a1, a2, a3, a4, a5, a6, a7) := by
  unfold wpX_insert
  refine br_f (by decide) (br_f (by decide) (ti_held0 (br_t rfl (ti_less0 (br_t rfl (ti_open h3 ?_))))))
  refine ti_unpack0 pk_us pk_us (ti_put h1 (ti_store1 pk_us pk_us pk_us (nm_r (e' := 1) (by decide) ?_)))
  exact h _ _ _ _ _ _ _ ⟨h1, pk_us, pk_us, rfl, rfl, pk_us⟩
theorem ti_load {post : Int32 → St2 → Prop} {p : Int32} (g : ti_G x a1 a2 a4 a5)
    (h0 : p = 0 → ∀ l b1 b6 b7, ti_G x b1 a2 a4 a5 → post 1 (1, 1, 1, 0, 0, l, b1, a2, a3, a4, a5, b6, b7))
    (hN : ¬ p = 0 → post (-1) (1, 1, 1, 0, 0, l, a1, a2, a3, a4, a5, a6, a7)) : wpX_load post (1, 1, 1, 0, 0, l, a1, a2, a3, a4, a5, a6, a7) p := by
  unfold wpX_load
  by_cases hp : p = 0
  · subst hp
    obtain ⟨h1, h2, h4, h50, h51, h52⟩ := g
    refine br_f (by decide) (br_t (by decide) (ti_rank h2 h4 (ti_unpack1 h2 h4 h50 h51 h52 (ti_before ?_))))
    refine nm_r (e' := 0) (by decide) ⟨ti_v (by decide), nm_r (e' := 1) (by rw [ti_c0]; exact pk_us) ⟨0 + 1 + 1, br_f (by decide) ⟨ti_v (by decide), ti_v (by decide), nm_r (e' := upd a1 0 x) (by rw [ti_c600, ti_c0, pk_us]) (nm_r (e' := 1) (by decide) (br_t (by decide) ?_))⟩⟩⟩
    exact h0 rfl _ _ _ _ ⟨pk_us, h2, h4, h50, h51, h52⟩
  · refine br_c (fun _ => hN hp) (fun hn => br_f (fun hl => hp ?_) (hN hp))
    obtain ⟨j, hj, rfl⟩ := nI_of hn
    have hl' : nI j < nI 1 := hl
    have hj' := (nI_ltI hj (by decide)).mp hl'
    have e : j = 0 := by omega
    rw [e]
    rfl
theorem ti_delete {post : Int32 → St2 → Prop} (g : ti_G x a1 a2 a4 a5) (h : ∀ u, post 0 u) : wpX_delete post (1, 1, 1, fb, fi, l, a1, a2, a3, a4, a5, a6, a7) := by
  unfold wpX_delete
  refine ti_held1 g (br_f (by decide) (ti_less1 g ?_))
  obtain ⟨h1, h2, h4, h50, h51, h52⟩ := g
  refine ti_rank h2 h4 (ti_unpack1 h2 h4 h50 h51 h52 (ti_before (nm_r (e' := 0) (by decide) (ti_take (nm_r (e' := 0) (by decide) (br_f (by decide) (br_t rfl ?_)))))))
  exact ti_store0 h2 (h _)
/-! the law -/
theorem ti_bad {mc ms kc ks : Nat} {p0 p1 p2 : Int32} (hb : p0 < 0 ∨ 9 < p0) : wL_lawOf_22 (fun r _ => r = 1) mc ms p0 p1 p2 kc ks 0 0 0 0 0 0 a1 a2 a3 a4 a5 a6 a7 := by
  have del : wL_lawOf_114 (fun r _ => r = 1) mc ms 0 (-1) kc ks 0 0 0 0 0 0 a1 a2 a3 a4 a5 a6 a7 := by
    unfold wL_lawOf_114 wL_lawOf_115
    refine br_t rfl ?_
    unfold wpX_delete
    exact ti_held0 (br_t rfl (br_t rfl (br_t rfl rfl)))
  have ld : wL_lawOf_90 (fun r _ => r = 1) mc ms p2 0 (-1) kc ks 0 0 0 0 0 0 a1 a2 a3 a4 a5 a6 a7 := by
    unfold wL_lawOf_90 wL_lawOf_91
    refine br_t rfl ?_
    unfold wpX_load
    exact br_c (fun _ => br_t rfl del) (fun hn => br_f hn (br_t rfl del))
  have lt : wL_lawOf_67 (fun r _ => r = 1) mc ms p0 p1 p2 0 (-1) (-1) kc ks 0 0 0 0 0 0 a1 a2 a3 a4 a5 a6 a7 := by
    unfold wL_lawOf_67
    refine br_t rfl ?_
    unfold wpX_letter
    exact br_c (fun _ => br_t rfl ld) (fun hn => br_f hn (br_t rfl ld))
  have go : wL_lawOf_40 (fun r _ => r = 1) mc ms p0 p1 p2 0 (-1) (-1) kc ks 0 0 0 0 0 0 a1 a2 a3 a4 a5 a6 a7 := by
    unfold wL_lawOf_40
    refine br_t rfl ?_
    unfold wpX_common
    refine br_t rfl (br_t rfl ?_)
    unfold wpX_insert
    exact br_t rfl (br_t rfl lt)
  unfold wL_lawOf_22 wL_lawOf_23 wpX_type
  refine br_c (fun _ => br_t rfl go) (fun h0 => br_t ?_ (br_t rfl go))
  rcases hb with z | z
  · exact absurd z h0
  · exact z
theorem ti_good {mc ms kc ks : Nat} {p0 p1 p2 : Int32} (hn : ¬ p0 < 0) (h9 : ¬ 9 < p0) (h3 : ∀ j, a3 j = 0) : wL_lawOf_23 (fun r _ => r = 1) mc ms p0 p1 p2 1 kc ks 0 0 0 0 0 0 a1 a2 a3 a4 a5 a6 a7 := by
  have del : ∀ l b1 b2 b3 b4 b5 b6 b7 z, ti_G p0 b1 b2 b4 b5 → wL_lawOf_115 (fun r _ => r = 1) mc ms 1 z z kc ks 1 1 1 0 0 l b1 b2 b3 b4 b5 b6 b7 := by
    intro l b1 b2 b3 b4 b5 b6 b7 z g
    unfold wL_lawOf_115
    refine br_t rfl (ti_delete g (fun u => ?_))
    exact br_f (by decide) (br_t rfl rfl)
  have ld : ∀ l b1 b2 b3 b4 b5 b6 b7 z, ti_G p0 b1 b2 b4 b5 → wL_lawOf_91 (fun r _ => r = 1) mc ms p2 1 z z kc ks 1 1 1 0 0 l b1 b2 b3 b4 b5 b6 b7 := by
    intro l b1 b2 b3 b4 b5 b6 b7 z g
    unfold wL_lawOf_91
    refine br_t rfl (ti_load g (fun hp l c1 c6 c7 g' => ?_) (fun hp => ?_))
    · exact br_f (by decide) (br_t hp (del _ _ _ _ _ _ _ _ _ g'))
    · exact br_f (by decide) (br_f hp (del _ _ _ _ _ _ _ _ _ g))
  have lt : ∀ l b1 b2 b3 b4 b5 b6 b7, ti_G p0 b1 b2 b4 b5 → wL_lawOf_67 (fun r _ => r = 1) mc ms p0 p1 p2 1 0 0 kc ks 1 1 1 0 0 l b1 b2 b3 b4 b5 b6 b7 := by
    intro l b1 b2 b3 b4 b5 b6 b7 g
    unfold wL_lawOf_67
    refine br_t rfl ?_
    unfold wpX_letter
    by_cases hp : p1 = 0
    · subst hp
      refine br_f (by decide) (br_t (by decide) ⟨ti_v (by decide), br_f (by decide) (br_t rfl ?_)⟩)
      rw [ti_c0, g.1]
      exact ld _ _ _ _ _ _ _ _ _ g
    · refine br_c (fun _ => br_f (by decide) (br_f hp (ld _ _ _ _ _ _ _ _ _ g))) (fun hm => br_f (fun hl => hp ?_) (br_f (by decide) (br_f hp (ld _ _ _ _ _ _ _ _ _ g))))
      obtain ⟨j, hj, rfl⟩ := nI_of hm
      have hl' : nI j < nI 1 := hl
      have hj' := (nI_ltI hj (by decide)).mp hl'
      have e : j = 0 := by omega
      rw [e]
      rfl
  unfold wL_lawOf_23 wpX_type
  refine br_f hn (br_f h9 (br_t (by decide) ⟨ti_v (by decide), nm_r (e' := upd a1 0 p0) (by rw [ti_c0]) (nm_r (e' := 1) (by decide) (br_f (by decide) ?_))⟩))
  unfold wL_lawOf_40
  refine br_t rfl ?_
  unfold wpX_common
  refine br_t rfl (br_t rfl ?_)
  exact ti_insert pk_us h3 (fun l b2 b3 b4 b5 b6 b7 g => br_f (by decide) (lt _ _ _ _ _ _ _ _ g))
end
theorem ti_lawOf (p0 p1 p2 : Int32) : wpL_lawOf (fun r _ => r = 1) 8 947 () p0 p1 p2 := by
  unfold wpL_lawOf
  refine ⟨by decide, by decide, 7, 934, by decide, by decide, ?_⟩
  unfold wpX_init
  refine ⟨by decide, by decide, by decide, by decide, by decide, by decide, by decide, by decide, by decide, by decide, by decide, by decide, by decide, by decide, ?_⟩
  exact br_c (fun z => ti_bad (Or.inl z)) (fun hn => br_c (fun z => ti_bad (Or.inr z)) (fun h9 => ti_good hn h9 (fun _ => rfl)))
theorem ti_cell {post : Int32 → Prop} {L : Nat} {xs : Nat → Int32} (i : Nat) (hL : L ≤ 3) (hi : i < 3) (h : ∀ r, post r) : wpL_cellAt post L xs () (nI i) :=
  br_c (fun _ => h _) (fun z => ⟨vp_in_nI (Nat.lt_of_not_le (fun z' => z (nI_le z' (by omega)))) (by omega), h _⟩)
theorem i_vc (xs : Nat → Int32) (L : Nat) (hL : L ≤ 3) : wpL_law (fun r => r = 1) L xs := by
  unfold wpL_law
  refine ti_cell 0 hL (by decide) (fun r1 => ?_)
  refine ti_cell 1 hL (by decide) (fun r2 => ?_)
  refine ti_cell 2 hL (by decide) (fun r3 => ?_)
  exact ⟨8, 947, by decide, by decide, ti_lawOf r1 r2 r3⟩
end
