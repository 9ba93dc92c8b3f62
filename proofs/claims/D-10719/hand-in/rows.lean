section
/-! the picture of one page: squeezed with zeros; in frame 0 -/
def pm_Q (a1 a2 a7 a8 : Nat → Int32) (k : Nat) : Prop := a1 k = 2 ∧ a2 k = nI k ∧ a7 k = 4 ∧ a8 k = 0
def pm_F (a1 a2 : Nat → Int32) (k : Nat) : Prop := a1 k = 1 ∧ a2 k = 0
theorem pm_z (i : Nat) : (0 : Int32) * 4 + nI i = nI i := by
  rw [show (0 : Int32) * 4 = 0 from by decide, Int32.zero_add]
theorem pm_c0 : (0 : Int32).toNatClampNeg = 0 := by decide
theorem pm_zero {s : Nat → Int32} {i : Nat} (h : ∀ j, j < i → s j = 0) : ∀ j, j < i + 1 → upd s i 0 j = 0 := by
  intro j hj
  by_cases e : j = i
  · rw [e, pk_us]
  · rw [pk_un e]
    exact h j (by omega)
theorem pm_QF {a1 a2 : Nat → Int32} {k : Nat} : pm_F (upd (upd a1 k 0) k 1) (upd a2 k 0) k := ⟨pk_us, pk_us⟩
theorem pm_Qn {a1 a2 a7 a8 : Nat → Int32} {j k : Nat} {x y z : Int32} (h : k ≠ j) (q : pm_Q a1 a2 a7 a8 k) : pm_Q (upd (upd a1 j x) j y) (upd a2 j z) a7 a8 k :=
  ⟨by rw [pk_un h, pk_un h]; exact q.1, by rw [pk_un h]; exact q.2.1, q.2.2.1, q.2.2.2⟩
section
variable {fr hd sc : Int32} {a1 a2 a3 a4 a5 a6 a7 a8 a9 a10 a11 : Nat → Int32}
theorem pm_good {post : Int32 → Prop} {k : Nat} (hk : k < 24) (h : post 0) : wpX_bad post () (nI k) :=
  br_f (nI_pos (by omega)) (br_t (nI_lt (b := 24) hk (by decide)) h)
theorem pm_bad {post : Int32 → Prop} {x : Int32} (hx : x < 0 ∨ nI 24 ≤ x) (h : post 1) : wpX_bad post () x :=
  br_c (fun _ => h) (fun z => br_f (fun y => absurd (hx.resolve_left z) (Int32.not_le.mpr y)) h)
theorem pm_peekQ {post : Int32 → Prop} {k w : Nat} (hk : k < 24) (hw : w < 4) (q : pm_Q a1 a2 a7 a8 k) (h : post 0) : wpX_peek post (fr, hd, sc, a1, a2, a3, a4, a5, a6, a7, a8, a9, a10, a11) (nI k) (nI w) := by
  have c : (nI k).toNatClampNeg = k := nI_clamp (by omega)
  obtain ⟨q1, q2, q7, q8⟩ := q
  unfold wpX_peek
  dsimp only
  rw [c]
  refine ⟨pk_in k 24 hk, nm_r q2 ⟨pk_in k 24 hk, nm_r q1 (br_f (by decide) (br_f (by decide) (br_f (by decide) (br_t rfl ⟨pk_in k 24 hk, ?_⟩))))⟩⟩
  rw [c]
  exact br_f (by rw [q7]; exact nI_ge (b := 4) hw (by decide)) ⟨pk_in k 24 hk, by rw [q8]; exact h⟩
theorem pm_letQ {post : St2 → Prop} {k : Nat} (hk : k < 24) (q1 : a1 k = 2) (q2 : a2 k = nI k) (h : post (fr, hd, sc, upd a1 k 0, a2, a3, a4, a5, upd a6 k 0, a7, a8, a9, a10, a11)) : wpX_letGo post (fr, hd, sc, a1, a2, a3, a4, a5, a6, a7, a8, a9, a10, a11) (nI k) := by
  have c : (nI k).toNatClampNeg = k := nI_clamp (by omega)
  unfold wpX_letGo
  dsimp only
  rw [c]
  refine ⟨pk_in k 24 hk, nm_r q2 ⟨pk_in k 24 hk, br_f (by rw [q1]; decide) ?_⟩⟩
  unfold wX_letGo_27
  rw [c]
  refine ⟨pk_in k 24 hk, br_t q1 ⟨pk_in k 24 hk, nm_e ?_⟩⟩
  unfold wX_letGo_44
  rw [c]
  exact ⟨pk_in k 24 hk, br_f (by rw [q1]; decide) ⟨pk_in k 24 hk, nm_e h⟩⟩
theorem pm_letF {post : St2 → Prop} {k : Nat} (hk : k < 24) (q1 : a1 k = 1) (q2 : a2 k = 0) (h : post (fr, hd, sc, upd a1 k 0, a2, a3, upd a4 0 (a4 0 - 1), a5, a6, a7, a8, a9, a10, a11)) : wpX_letGo post (fr, hd, sc, a1, a2, a3, a4, a5, a6, a7, a8, a9, a10, a11) (nI k) := by
  have c : (nI k).toNatClampNeg = k := nI_clamp (by omega)
  unfold wpX_letGo
  dsimp only
  rw [c]
  refine ⟨pk_in k 24 hk, nm_r q2 ⟨pk_in k 24 hk, br_t q1 ⟨pk_in 0 16 (by decide), pk_in 0 16 (by decide), nm_r (e' := upd a4 0 (a4 0 - 1)) (by rw [pm_c0]) ?_⟩⟩⟩
  unfold wX_letGo_27
  rw [c]
  refine ⟨pk_in k 24 hk, br_f (by rw [q1]; decide) ?_⟩
  unfold wX_letGo_44
  rw [c]
  exact ⟨pk_in k 24 hk, br_f (by rw [q1]; decide) ⟨pk_in k 24 hk, nm_e h⟩⟩
theorem pm_take {post : Int32 → St2 → Prop} {x y : Int32} (hf : ¬ fr ≤ 0) (h4 : a4 0 = 0) (h : post 0 (fr, hd, sc, a1, a2, a3, a4, a5, a6, a7, a8, a9, a10, a11)) : wpX_takeFrame post (fr, hd, sc, a1, a2, a3, a4, a5, a6, a7, a8, a9, a10, a11) x y := by
  unfold wpX_takeFrame
  dsimp only
  unfold wpX_freeFrame
  dsimp only
  exact ⟨0 + 1, br_f hf ⟨pk_in 0 16 (by decide), br_t (by rw [pm_c0]; exact h4) ⟨0 + 1, br_f (by decide) (br_t (by decide) (br_t (by decide) h))⟩⟩⟩
theorem pm_bringF {post : St2 → Prop} {k : Nat} {y : Int32} (hk : k < 24) (q1 : a1 k = 1) (h : post (fr, hd, sc, a1, a2, upd a3 k 1, a4, a5, a6, a7, a8, a9, a10, a11)) : wpX_bringIn post (fr, hd, sc, a1, a2, a3, a4, a5, a6, a7, a8, a9, a10, a11) (nI k) y := by
  have c : (nI k).toNatClampNeg = k := nI_clamp (by omega)
  unfold wpX_bringIn
  dsimp only
  rw [c]
  exact ⟨pk_in k 24 hk, nm_e ⟨pk_in k 24 hk, br_t q1 h⟩⟩
theorem pm_bringQ {post : St2 → Prop} {k : Nat} {y : Int32} (hk : k < 24) (hf : ¬ fr ≤ 0) (h4 : a4 0 = 0) (q : pm_Q a1 a2 a7 a8 k)
    (h : ∀ b5 : Nat → Int32, (∀ j, j < 4 → b5 j = 0) → post (fr, hd, sc, upd (upd a1 k 0) k 1, upd a2 k 0, upd a3 k 1, upd a4 0 1, b5, upd a6 k 0, a7, a8, a9, a10, a11)) : wpX_bringIn post (fr, hd, sc, a1, a2, a3, a4, a5, a6, a7, a8, a9, a10, a11) (nI k) y := by
  have c : (nI k).toNatClampNeg = k := nI_clamp (by omega)
  unfold wpX_bringIn
  dsimp only
  rw [c]
  refine ⟨pk_in k 24 hk, nm_e ⟨pk_in k 24 hk, br_f (by rw [q.1]; decide) (pm_take hf h4 ?_)⟩⟩
  refine pk_loop (fun n i s => wX_bringIn_28 post (nI k) 0 fr hd sc n (nI i) a1 a2 (upd a3 k 1) a4 s a6 a7 a8 a9 a10 a11) (fun i s => ∀ j, j < i → s j = 0) 4 0 a5 (by omega) (fun j hj => absurd hj (by omega)) (fun n s hs => ?_) (fun n i s hi hs hw => ?_)
  · refine pk_le 4 4 (fun _ => pm_letQ hk q.1 q.2.1 ?_) (fun z => absurd z (by omega))
    dsimp only
    rw [c, pm_c0]
    exact ⟨pk_in 0 16 (by decide), nm_e ⟨pk_in k 24 hk, nm_e ⟨pk_in k 24 hk, nm_e (h s hs)⟩⟩⟩
  · refine pk_le 4 i (fun z => absurd z (by omega)) (fun _ => pm_peekQ hk hi q ?_)
    rw [pm_z, nI_clamp (show i < 2 ^ 31 by omega)]
    exact ⟨pk_in i 64 (by omega), nm_e (nm_r (nI_1 i) (hw _ (pm_zero hs)))⟩
theorem pm_ownQ {post : St2 → Prop} {k : Nat} (hk : k < 24) (hf : ¬ fr ≤ 0) (h4 : a4 0 = 0) (q : pm_Q a1 a2 a7 a8 k)
    (h : ∀ b5 : Nat → Int32, (∀ j, j < 4 → b5 j = 0) → post (fr, hd, sc, upd (upd a1 k 0) k 1, upd a2 k 0, upd a3 k 1, upd a4 0 1, b5, upd a6 k 0, a7, a8, a9, a10, a11)) : wpX_own post (fr, hd, sc, a1, a2, a3, a4, a5, a6, a7, a8, a9, a10, a11) (nI k) := by
  have c : (nI k).toNatClampNeg = k := nI_clamp (by omega)
  unfold wpX_own
  dsimp only
  refine pm_bringQ hk hf h4 q (fun b5 hb => ?_)
  dsimp only
  rw [c]
  exact ⟨pk_in k 24 hk, nm_r (e' := 0) pk_us ⟨pk_in 0 16 (by decide), br_t (by rw [pm_c0]; exact pk_us) (h b5 hb)⟩⟩
/-! write -/
theorem pm_writeB {post : Int32 → St2 → Prop} {x y v : Int32} (hx : x < 0 ∨ nI 24 ≤ x) (h : post (-1) (fr, hd, sc, a1, a2, a3, a4, a5, a6, a7, a8, a9, a10, a11)) : wpX_write post (fr, hd, sc, a1, a2, a3, a4, a5, a6, a7, a8, a9, a10, a11) x y v := by
  unfold wpX_write
  dsimp only
  exact pm_bad hx (br_f (by decide) h)
theorem pm_writeW {post : Int32 → St2 → Prop} {k : Nat} {y v : Int32} (hk : k < 24) (hy : y < 0 ∨ nI 4 ≤ y) (h : post (-2) (fr, hd, sc, a1, a2, a3, a4, a5, a6, a7, a8, a9, a10, a11)) : wpX_write post (fr, hd, sc, a1, a2, a3, a4, a5, a6, a7, a8, a9, a10, a11) (nI k) y v := by
  unfold wpX_write
  dsimp only
  exact pm_good hk (br_t rfl (br_c (fun _ => h) (fun z => br_f (fun t => absurd (hy.resolve_left z) (Int32.not_le.mpr t)) h)))
theorem pm_writeQ {post : Int32 → St2 → Prop} {k w : Nat} {v : Int32} (hk : k < 24) (hw : w < 4) (hf : ¬ fr ≤ 0) (h4 : a4 0 = 0) (q : pm_Q a1 a2 a7 a8 k)
    (h : ∀ b5 : Nat → Int32, (∀ j, j < 4 → b5 j = if j = w then v else 0) → post 0 (fr, hd, sc, upd (upd a1 k 0) k 1, upd a2 k 0, upd a3 k 1, upd a4 0 1, b5, upd a6 k 0, a7, a8, a9, a10, a11)) : wpX_write post (fr, hd, sc, a1, a2, a3, a4, a5, a6, a7, a8, a9, a10, a11) (nI k) (nI w) v := by
  have c : (nI k).toNatClampNeg = k := nI_clamp (by omega)
  have cw : (nI w).toNatClampNeg = w := nI_clamp (by omega)
  unfold wpX_write
  dsimp only
  refine pm_good hk (br_t rfl (br_f (nI_pos (by omega)) (br_t (nI_lt (b := 4) hw (by decide)) (pm_ownQ hk hf h4 q (fun b5 hb => ?_)))))
  dsimp only
  rw [c]
  refine ⟨pk_in k 24 hk, nm_r (e' := nI w) (by rw [pk_us, pm_z]) ?_⟩
  rw [cw]
  refine ⟨pk_in w 64 (by omega), nm_r (e' := 0) (hb w hw) ⟨pk_in w 64 (by omega), nm_e (h _ (fun j hj => ?_))⟩⟩
  by_cases e : j = w
  · rw [e, pk_us, if_pos rfl]
  · rw [pk_un e, if_neg e]
    exact hb j hj
/-! copy -/
theorem pm_copyB1 {post : Int32 → St2 → Prop} {x y : Int32} (hx : x < 0 ∨ nI 24 ≤ x) (h : post (-1) (fr, hd, sc, a1, a2, a3, a4, a5, a6, a7, a8, a9, a10, a11)) : wpX_copy post (fr, hd, sc, a1, a2, a3, a4, a5, a6, a7, a8, a9, a10, a11) x y := by
  unfold wpX_copy
  dsimp only
  exact pm_bad hx (br_f (by decide) h)
theorem pm_copyB2 {post : Int32 → St2 → Prop} {j : Nat} {y : Int32} (hj : j < 24) (hy : y < 0 ∨ nI 24 ≤ y) (h : post (-1) (fr, hd, sc, a1, a2, a3, a4, a5, a6, a7, a8, a9, a10, a11)) : wpX_copy post (fr, hd, sc, a1, a2, a3, a4, a5, a6, a7, a8, a9, a10, a11) (nI j) y := by
  unfold wpX_copy
  dsimp only
  exact pm_good hj (br_t rfl (pm_bad hy (br_f (by decide) h)))
theorem pm_copyE {post : Int32 → St2 → Prop} {k : Nat} (hk : k < 24) (h : post 0 (fr, hd, sc, a1, a2, a3, a4, a5, a6, a7, a8, a9, a10, a11)) : wpX_copy post (fr, hd, sc, a1, a2, a3, a4, a5, a6, a7, a8, a9, a10, a11) (nI k) (nI k) := by
  unfold wpX_copy
  dsimp only
  exact pm_good hk (br_t rfl (pm_good hk (br_t rfl (br_t rfl h))))
theorem pm_copyF {post : Int32 → St2 → Prop} {j k : Nat} (hj : j < 24) (hk : k < 24) (hn : j ≠ k) (f : pm_F a1 a2 j) (q : pm_Q a1 a2 a7 a8 k)
    (h : ∀ b1 b2 b3 b4 b6 : Nat → Int32, pm_F b1 b2 j → pm_F b1 b2 k → post 0 (fr, hd, sc, b1, b2, b3, b4, a5, b6, a7, a8, a9, a10, a11)) : wpX_copy post (fr, hd, sc, a1, a2, a3, a4, a5, a6, a7, a8, a9, a10, a11) (nI j) (nI k) := by
  have cj : (nI j).toNatClampNeg = j := nI_clamp (by omega)
  have ck : (nI k).toNatClampNeg = k := nI_clamp (by omega)
  unfold wpX_copy
  dsimp only
  rw [cj]
  refine pm_good hj (br_t rfl (pm_good hk (br_t rfl (br_f (fun e => hn ((nI_eq (by omega) (by omega)).mp e)) ⟨pk_in j 24 hj, br_f (by rw [f.1]; decide) (pm_bringF hj f.1 (pm_letQ hk q.1 q.2.1 ?_))⟩))))
  dsimp only
  rw [ck]
  have e0 : upd a2 k (a2 j) j = 0 := by rw [pk_un hn]; exact f.2
  refine ⟨pk_in k 24 hk, nm_e ⟨pk_in j 24 hj, pk_in k 24 hk, nm_e ⟨pk_in j 24 hj, ?_⟩⟩⟩
  rw [e0]
  refine ⟨pk_in 0 16 (by decide), pk_in 0 16 (by decide), nm_e ⟨pk_in k 24 hk, nm_e (h _ _ _ _ _ ⟨?_, e0⟩ ⟨pk_us, by rw [pk_us]; exact f.2⟩)⟩⟩
  rw [pk_un hn, pk_un hn]
  exact f.1
theorem pm_copyQ {post : Int32 → St2 → Prop} {j k : Nat} (hj : j < 24) (hk : k < 24) (hn : j ≠ k) (hf : ¬ fr ≤ 0) (h4 : a4 0 = 0) (qj : pm_Q a1 a2 a7 a8 j) (q : pm_Q a1 a2 a7 a8 k)
    (h : ∀ b1 b2 b3 b4 b5 b6 : Nat → Int32, pm_F b1 b2 j → pm_F b1 b2 k → (∀ i, i < 4 → b5 i = 0) → post 0 (fr, hd, sc, b1, b2, b3, b4, b5, b6, a7, a8, a9, a10, a11)) : wpX_copy post (fr, hd, sc, a1, a2, a3, a4, a5, a6, a7, a8, a9, a10, a11) (nI j) (nI k) := by
  have cj : (nI j).toNatClampNeg = j := nI_clamp (by omega)
  have ck : (nI k).toNatClampNeg = k := nI_clamp (by omega)
  unfold wpX_copy
  dsimp only
  rw [cj]
  refine pm_good hj (br_t rfl (pm_good hk (br_t rfl (br_f (fun e => hn ((nI_eq (by omega) (by omega)).mp e)) ⟨pk_in j 24 hj, br_f (by rw [qj.1]; decide) (pm_bringQ hj hf h4 qj (fun b5 hb => ?_))⟩))))
  have q' : pm_Q (upd (upd a1 j 0) j 1) (upd a2 j 0) a7 a8 k := pm_Qn (fun e => hn e.symm) q
  have f : pm_F (upd (upd a1 j 0) j 1) (upd a2 j 0) j := pm_QF
  refine pm_letQ hk q'.1 q'.2.1 ?_
  dsimp only
  rw [ck]
  have e0 : upd (upd a2 j 0) k (upd a2 j 0 j) j = 0 := by rw [pk_un hn]; exact f.2
  refine ⟨pk_in k 24 hk, nm_e ⟨pk_in j 24 hj, pk_in k 24 hk, nm_e ⟨pk_in j 24 hj, ?_⟩⟩⟩
  rw [e0]
  refine ⟨pk_in 0 16 (by decide), pk_in 0 16 (by decide), nm_e ⟨pk_in k 24 hk, nm_e (h _ _ _ _ _ _ ⟨?_, e0⟩ ⟨pk_us, by rw [pk_us]; exact f.2⟩ hb)⟩⟩
  rw [pk_un hn, pk_un hn]
  exact f.1
/-! read -/
theorem pm_readB {post : Int32 → St2 → Prop} {x y : Int32} (hx : x < 0 ∨ nI 24 ≤ x) (h : post (-1) (fr, hd, sc, a1, a2, a3, a4, a5, a6, a7, a8, a9, a10, a11)) : wpX_read post (fr, hd, sc, a1, a2, a3, a4, a5, a6, a7, a8, a9, a10, a11) x y := by
  unfold wpX_read
  dsimp only
  exact pm_bad hx (br_f (by decide) h)
theorem pm_readW {post : Int32 → St2 → Prop} {k : Nat} {y : Int32} (hk : k < 24) (hy : y < 0 ∨ nI 4 ≤ y) (h : post (-2) (fr, hd, sc, a1, a2, a3, a4, a5, a6, a7, a8, a9, a10, a11)) : wpX_read post (fr, hd, sc, a1, a2, a3, a4, a5, a6, a7, a8, a9, a10, a11) (nI k) y := by
  unfold wpX_read
  dsimp only
  exact pm_good hk (br_t rfl (br_c (fun _ => h) (fun z => br_f (fun t => absurd (hy.resolve_left z) (Int32.not_le.mpr t)) h)))
theorem pm_readF {post : Int32 → St2 → Prop} {k w : Nat} (hk : k < 24) (hw : w < 4) (f : pm_F a1 a2 k) (h : post (a5 w) (fr, hd, sc, a1, a2, upd a3 k 1, a4, a5, a6, a7, a8, a9, a10, a11)) : wpX_read post (fr, hd, sc, a1, a2, a3, a4, a5, a6, a7, a8, a9, a10, a11) (nI k) (nI w) := by
  have c : (nI k).toNatClampNeg = k := nI_clamp (by omega)
  have cw : (nI w).toNatClampNeg = w := nI_clamp (by omega)
  unfold wpX_read
  dsimp only
  rw [c]
  refine pm_good hk (br_t rfl (br_f (nI_pos (by omega)) (br_t (nI_lt (b := 4) hw (by decide)) ⟨pk_in k 24 hk, br_f (by rw [f.1]; decide) (pm_bringF hk f.1 ?_)⟩)))
  dsimp only
  rw [f.2, pm_z, cw]
  exact ⟨pk_in k 24 hk, pk_in w 64 (by omega), h⟩
theorem pm_readQ {post : Int32 → St2 → Prop} {k w : Nat} (hk : k < 24) (hw : w < 4) (hf : ¬ fr ≤ 0) (h4 : a4 0 = 0) (q : pm_Q a1 a2 a7 a8 k)
    (h : ∀ b1 b2 b3 b4 b5 b6 : Nat → Int32, pm_F b1 b2 k → post 0 (fr, hd, sc, b1, b2, b3, b4, b5, b6, a7, a8, a9, a10, a11)) : wpX_read post (fr, hd, sc, a1, a2, a3, a4, a5, a6, a7, a8, a9, a10, a11) (nI k) (nI w) := by
  have c : (nI k).toNatClampNeg = k := nI_clamp (by omega)
  have cw : (nI w).toNatClampNeg = w := nI_clamp (by omega)
  unfold wpX_read
  dsimp only
  rw [c]
  refine pm_good hk (br_t rfl (br_f (nI_pos (by omega)) (br_t (nI_lt (b := 4) hw (by decide)) ⟨pk_in k 24 hk, br_f (by rw [q.1]; decide) (pm_bringQ hk hf h4 q (fun b5 hb => ?_))⟩)))
  dsimp only
  rw [pk_us (f := a2), pm_z, cw, hb w hw]
  exact ⟨pk_in k 24 hk, pk_in w 64 (by omega), h _ _ _ _ _ _ pm_QF⟩
/-! same -/
theorem pm_sameB1 {post : Int32 → Prop} {x y : Int32} (hx : x < 0 ∨ nI 24 ≤ x) (h : post 0) : wpX_same post (fr, hd, sc, a1, a2, a3, a4, a5, a6, a7, a8, a9, a10, a11) x y := by
  unfold wpX_same
  dsimp only
  exact pm_bad hx (br_f (by decide) h)
theorem pm_sameB2 {post : Int32 → Prop} {j : Nat} {y : Int32} (hj : j < 24) (hy : y < 0 ∨ nI 24 ≤ y) (h : post 0) : wpX_same post (fr, hd, sc, a1, a2, a3, a4, a5, a6, a7, a8, a9, a10, a11) (nI j) y := by
  unfold wpX_same
  dsimp only
  exact pm_good hj (br_t rfl (pm_bad hy (br_f (by decide) h)))
theorem pm_eqF {post : Int32 → Prop} {j k : Nat} (hj : j < 24) (hk : k < 24) (f : pm_F a1 a2 j) (g : pm_F a1 a2 k) (h : post 1) : wpX_equalPages post (fr, hd, sc, a1, a2, a3, a4, a5, a6, a7, a8, a9, a10, a11) (nI j) (nI k) := by
  have cj : (nI j).toNatClampNeg = j := nI_clamp (by omega)
  have ck : (nI k).toNatClampNeg = k := nI_clamp (by omega)
  unfold wpX_equalPages
  dsimp only
  rw [cj, ck]
  exact ⟨pk_in j 24 hj, br_t f.1 ⟨pk_in k 24 hk, br_t g.1 ⟨pk_in j 24 hj, pk_in k 24 hk, br_t (by rw [f.2, g.2]) h⟩⟩⟩
theorem pm_eqQ {post : Int32 → Prop} {k : Nat} (hk : k < 24) (q : pm_Q a1 a2 a7 a8 k) (h : post 1) : wpX_equalPages post (fr, hd, sc, a1, a2, a3, a4, a5, a6, a7, a8, a9, a10, a11) (nI k) (nI k) := by
  have c : (nI k).toNatClampNeg = k := nI_clamp (by omega)
  unfold wpX_equalPages
  dsimp only
  rw [c]
  refine ⟨pk_in k 24 hk, br_f (by rw [q.1]; decide) ?_⟩
  exact pk_loop (σ := Unit) (fun n i _ => wX_equalPages_39 post (nI k) (nI k) fr hd sc a1 a2 a3 a4 a5 a6 a7 a8 a9 a10 a11 n (nI i)) (fun _ _ => True) 4 0 () (by omega) trivial
    (fun n _ _ => pk_le 4 4 (fun _ => h) (fun z => absurd z (by omega)))
    (fun n i _ hi _ hw => pk_le 4 i (fun z => absurd z (by omega)) (fun _ => pm_peekQ hk hi q (pm_peekQ hk hi q (br_t rfl (nm_r (nI_1 i) (hw () trivial))))))
theorem pm_same {post : Int32 → Prop} {j k : Nat} (hj : j < 24) (hk : k < 24) (he : ∀ ps : Int32 → Prop, ps 1 → wpX_equalPages ps (fr, hd, sc, a1, a2, a3, a4, a5, a6, a7, a8, a9, a10, a11) (nI j) (nI k)) (h : post 1) : wpX_same post (fr, hd, sc, a1, a2, a3, a4, a5, a6, a7, a8, a9, a10, a11) (nI j) (nI k) := by
  unfold wpX_same
  dsimp only
  exact pm_good hj (br_t rfl (pm_good hk (br_t rfl (he _ ⟨by decide, h⟩))))
/-! release -/
theorem pm_relB {post : Int32 → St2 → Prop} {x : Int32} (hx : x < 0 ∨ nI 24 ≤ x) (h : post (-1) (fr, hd, sc, a1, a2, a3, a4, a5, a6, a7, a8, a9, a10, a11)) : wpX_release post (fr, hd, sc, a1, a2, a3, a4, a5, a6, a7, a8, a9, a10, a11) x := by
  unfold wpX_release
  dsimp only
  exact pm_bad hx (br_f (by decide) h)
theorem pm_rel0 {post : Int32 → St2 → Prop} {k : Nat} (hk : k < 24) (h1 : a1 k = 0) (h : post (-3) (fr, hd, sc, a1, a2, a3, a4, a5, a6, a7, a8, a9, a10, a11)) : wpX_release post (fr, hd, sc, a1, a2, a3, a4, a5, a6, a7, a8, a9, a10, a11) (nI k) := by
  have c : (nI k).toNatClampNeg = k := nI_clamp (by omega)
  unfold wpX_release
  dsimp only
  rw [c]
  exact pm_good hk (br_t rfl ⟨pk_in k 24 hk, br_t h1 h⟩)
theorem pm_rel {post : Int32 → St2 → Prop} {k : Nat} (hk : k < 24) (hp : pm_F a1 a2 k ∨ pm_Q a1 a2 a7 a8 k) (h : ∀ b1 b4 b6 : Nat → Int32, b1 k = 0 → post 0 (fr, hd, sc, b1, a2, a3, b4, a5, b6, a7, a8, a9, a10, a11)) : wpX_release post (fr, hd, sc, a1, a2, a3, a4, a5, a6, a7, a8, a9, a10, a11) (nI k) := by
  have c : (nI k).toNatClampNeg = k := nI_clamp (by omega)
  unfold wpX_release
  dsimp only
  rw [c]
  rcases hp with f | q
  · exact pm_good hk (br_t rfl ⟨pk_in k 24 hk, br_f (by rw [f.1]; decide) (pm_letF hk f.1 f.2 (h _ _ _ pk_us))⟩)
  · exact pm_good hk (br_t rfl ⟨pk_in k 24 hk, br_f (by rw [q.1]; decide) (pm_letQ hk q.1 q.2.1 (h _ _ _ pk_us))⟩)
/-! the constructor -/
theorem pm_117 {post : St2 → Prop} {mc ms kc ks : Nat} {b1 b2 b6 b7 : Nat → Int32}
    (h : ∀ b1 b2 b6 b7 : Nat → Int32, (∀ j, j < 24 → b1 j = 2 ∧ b2 j = nI j ∧ b7 j = 4) → post (fr, hd, sc, b1, b2, a3, a4, a5, b6, b7, a8, a9, a10, a11)) :
    ∃ n, wX_init_117 post mc ms kc ks fr hd sc n 0 b1 b2 a3 a4 a5 b6 b7 a8 a9 a10 a11 := by
  refine pk_loop (σ := (Nat → Int32) × (Nat → Int32) × (Nat → Int32) × (Nat → Int32)) (fun n i s => wX_init_117 post mc ms kc ks fr hd sc n (nI i) s.1 s.2.1 a3 a4 a5 s.2.2.1 s.2.2.2 a8 a9 a10 a11) (fun i s => ∀ j, j < i → s.1 j = 2 ∧ s.2.1 j = nI j ∧ s.2.2.2 j = 4) 24 0 (b1, b2, b6, b7) (by omega) (fun j hj => absurd hj (by omega)) (fun n s hs => ?_) (fun n i s hi hs hw => ?_)
  · exact pk_le 24 24 (fun _ => h _ _ _ _ hs) (fun z => absurd z (by omega))
  · have c : (nI i).toNatClampNeg = i := nI_clamp (by omega)
    refine pk_le 24 i (fun z => absurd z (by omega)) (fun _ => ⟨pk_in i 24 hi, nm_r (e' := upd s.1 i 2) (by rw [c]) ⟨pk_in i 24 hi, nm_r (e' := upd s.2.1 i (nI i)) (by rw [c]) ⟨pk_in i 24 hi, nm_r (e' := upd s.2.2.1 i 1) (by rw [c]) ⟨pk_in i 24 hi, nm_r (e' := upd s.2.2.2 i 4) (by rw [c]) (nm_r (nI_1 i) (hw (upd s.1 i 2, upd s.2.1 i (nI i), upd s.2.2.1 i 1, upd s.2.2.2 i 4) ?_))⟩⟩⟩⟩)
    intro j hj
    dsimp only
    by_cases e : j = i
    · rw [e, pk_us, pk_us, pk_us]
      exact ⟨rfl, rfl, rfl⟩
    · rw [pk_un e, pk_un e, pk_un e]
      exact hs j (by omega)
theorem pm_pos {x : Int32} (h : 4 ≤ x) : ¬ x ≤ 0 := by
  intro z
  exact absurd (Int32.le_trans h z) (by decide)
theorem pm_init {post : St2 → Prop} {mc ms : Nat} {p0 : Int32} (hc : 11 ≤ mc) (hs : 368 ≤ ms)
    (h : ∀ (fr : Int32) (b1 b2 b3 b4 b5 b6 b7 b8 b9 b10 b11 : Nat → Int32), ¬ fr ≤ 0 → (∀ j, j < 24 → pm_Q b1 b2 b7 b8 j) → b4 0 = 0 → post (fr, 0, 0, b1, b2, b3, b4, b5, b6, b7, b8, b9, b10, b11)) : wpX_init post mc ms (0, 0, 0) p0 := by
  have A : ∀ (fr : Int32), ¬ fr ≤ 0 → ∃ n, wX_init_117 post mc ms 11 368 fr 0 0 n 0 (fun _ => 0) (fun _ => 0) (fun _ => 0) (fun _ => 0) (fun _ => 0) (fun _ => 0) (fun _ => 0) (fun _ => 0) (fun _ => 0) (fun _ => 0) (fun _ => 0) := fun fr hf =>
    pm_117 (fun b1 b2 b6 b7 hb => h fr b1 b2 (fun _ => 0) (fun _ => 0) (fun _ => 0) b6 b7 (fun _ => 0) (fun _ => 0) (fun _ => 0) (fun _ => 0) hf (fun j hj => ⟨(hb j hj).1, (hb j hj).2.1, (hb j hj).2.2, rfl⟩) rfl)
  have B : ∀ x2 : Int32, 4 ≤ x2 → wX_init_101 post mc ms x2 11 368 0 0 0 (fun _ => 0) (fun _ => 0) (fun _ => 0) (fun _ => 0) (fun _ => 0) (fun _ => 0) (fun _ => 0) (fun _ => 0) (fun _ => 0) (fun _ => 0) (fun _ => 0) := fun x2 hx =>
    br_c (fun _ => A x2 (pm_pos hx)) (fun _ => A 16 (by decide))
  unfold wpX_init
  dsimp only
  exact ⟨by omega, by omega, by omega, by omega, by omega, by omega, by omega, by omega, by omega, by omega, by omega, by omega, by omega, by omega, by omega, by omega, by omega, by omega, by omega, by omega, by omega, by omega, br_c (fun z => B p0 z) (fun _ => B 4 (by decide))⟩
end
end
section
/-! flags of the law: a page number, a word number -/
def pm_V (x b : Int32) (n : Nat) : Prop := ((x < 0 ∨ nI n ≤ x) ∧ b = 0) ∨ (∃ j, j < n ∧ x = nI j ∧ b = 1)
/-- what frame 0 holds: zeros, or the value at the word that was put -/
def pm_M (a5 : Nat → Int32) (z x2 x3 : Int32) : Prop := ∀ v, v < 4 → (z = 0 → a5 v = 0) ∧ (¬ z = 0 → (nI v = x2 → a5 v = x3) ∧ (¬ nI v = x2 → a5 v = 0))
/-- pages p (x1) and q (k) before same -/
def pm_S (a1 a2 a7 a8 : Nat → Int32) (x1 : Int32) (k : Nat) : Prop := (pm_F a1 a2 k ∧ ∀ j, j < 24 → x1 = nI j → pm_F a1 a2 j) ∨ (pm_Q a1 a2 a7 a8 k ∧ ∀ j, j < 24 → x1 = nI j → j = k)
/-- pages p (x1) and q (k) before read; z: the word was put -/
def pm_R (a1 a2 a4 a5 a7 a8 : Nat → Int32) (z x1 x2 x3 : Int32) (k : Nat) : Prop := (pm_F a1 a2 k ∧ (∀ j, j < 24 → x1 = nI j → pm_F a1 a2 j) ∧ pm_M a5 z x2 x3) ∨ (pm_Q a1 a2 a7 a8 k ∧ a4 0 = 0 ∧ z = 0 ∧ ∀ j, j < 24 → x1 = nI j → j = k)
/-- before copy -/
def pm_W (a1 a2 a4 a5 a7 a8 : Nat → Int32) (z x1 x2 x3 : Int32) : Prop := (z = 0 ∧ (∀ k, k < 24 → pm_Q a1 a2 a7 a8 k) ∧ a4 0 = 0) ∨ (z = 1 ∧ pm_M a5 1 x2 x3 ∧ ∃ j, j < 24 ∧ x1 = nI j ∧ pm_F a1 a2 j ∧ ∀ k, k < 24 → k ≠ j → pm_Q a1 a2 a7 a8 k)
theorem pm_hi {x m : Int32} {n : Nat} (hn : n < 2 ^ 30) (hm : m = nI n) (h : m < x) : nI (n + 1) ≤ x := by
  subst hm
  rw [Int32.lt_iff_toInt_lt, nI_toInt (by omega)] at h
  rw [Int32.le_iff_toInt_le, nI_toInt (by omega)]
  omega
theorem pm_lo {x m : Int32} {n : Nat} (hn : n < 2 ^ 30) (hm : m = nI n) (h0 : ¬ x < 0) (h : ¬ m < x) : ∃ j, j < n + 1 ∧ x = nI j := by
  subst hm
  obtain ⟨j, hj, rfl⟩ := nI_of h0
  rw [nI_ltI (by omega) hj] at h
  exact ⟨j, by omega, rfl⟩
theorem pm_nbad {x : Int32} {n j : Nat} (hn : n < 2 ^ 31) (hj : j < n) (hx : x < 0 ∨ nI n ≤ x) (e : x = nI j) : False := by
  subst e
  rcases hx with h | h
  · exact nI_pos (by omega) h
  · exact nI_ge hj hn h
/-- a flag that the law computes by two comparisons, in the order of the code -/
theorem pm_flag {x m : Int32} {n : Nat} {P : Int32 → Prop} (hn : n < 2 ^ 30) (hm : m = nI n) (h : ∀ b, pm_V x b (n + 1) → P b) : (x < 0 → P 0) ∧ (¬ x < 0 → ((m < x → P 0) ∧ (¬ m < x → P 1))) :=
  br_c (fun z => h 0 (Or.inl ⟨Or.inl z, rfl⟩)) (fun z => br_c (fun y => h 0 (Or.inl ⟨Or.inr (pm_hi hn hm y), rfl⟩)) (fun y => by
    obtain ⟨j, hj, e⟩ := pm_lo hn hm z y
    exact h 1 (Or.inr ⟨j, hj, e, rfl⟩)))
section
variable {fr hd sc : Int32} {a1 a2 a3 a4 a5 a6 a7 a8 a9 a10 a11 : Nat → Int32} {mc ms kc ks : Nat} {x1 x2 x3 x4 x5 x7 x8 x9 x10 z0 z1 : Int32}
theorem pm_235 (hz : z1 = z0) (hq : ((x4 < 0 ∨ nI 24 ≤ x4) ∧ x9 = 0) ∨ (∃ k, k < 24 ∧ x4 = nI k ∧ x9 = 1 ∧ (pm_F a1 a2 k ∨ pm_Q a1 a2 a7 a8 k))) : wL_lawOf_235 (fun r _ => r = 1) mc ms x4 x9 z0 z1 kc ks fr hd sc a1 a2 a3 a4 a5 a6 a7 a8 a9 a10 a11 := by
  unfold wL_lawOf_235
  rcases hq with ⟨hb, rfl⟩ | ⟨k, hk, rfl, rfl, hp⟩
  · exact br_t hz (pm_relB hb (br_t rfl (br_t rfl (pm_relB hb (br_t rfl (br_t rfl rfl))))))
  · exact br_t hz (pm_rel hk hp (fun b1 b4 b6 hb => br_f (by decide) (br_t rfl (pm_rel0 hk hb (br_f (by decide) (br_t rfl rfl))))))
theorem pm_207 (hz : z1 = z0) (hp : pm_V x1 x7 24) (hq : ((x4 < 0 ∨ nI 24 ≤ x4) ∧ x9 = 0) ∨ (∃ k, k < 24 ∧ x4 = nI k ∧ x9 = 1 ∧ pm_S a1 a2 a7 a8 x1 k)) : wL_lawOf_207 (fun r _ => r = 1) mc ms x1 x4 x7 x9 z0 z1 kc ks fr hd sc a1 a2 a3 a4 a5 a6 a7 a8 a9 a10 a11 := by
  have hq' : ((x4 < 0 ∨ nI 24 ≤ x4) ∧ x9 = 0) ∨ (∃ k, k < 24 ∧ x4 = nI k ∧ x9 = 1 ∧ (pm_F a1 a2 k ∨ pm_Q a1 a2 a7 a8 k)) := by
    rcases hq with h | ⟨k, hk, e, e', h⟩
    · exact Or.inl h
    · exact Or.inr ⟨k, hk, e, e', h.elim (fun t => Or.inl t.1) (fun t => Or.inr t.1)⟩
  unfold wL_lawOf_207
  refine br_t hz ?_
  rcases hp with ⟨hb, rfl⟩ | ⟨j, hj, rfl, rfl⟩
  · exact pm_sameB1 hb (br_t rfl (pm_235 rfl hq'))
  · rcases hq with ⟨hb, rfl⟩ | ⟨k, hk, rfl, rfl, h⟩
    · exact pm_sameB2 hj hb (br_f (by decide) (br_t rfl (pm_235 rfl hq')))
    · refine pm_same hj hk (fun ps h1 => ?_) (br_f (by decide) (br_f (by decide) (pm_235 rfl hq')))
      rcases h with ⟨f, g⟩ | ⟨q, g⟩
      · exact pm_eqF hj hk (g j hj rfl) f h1
      · have e := g j hj rfl
        subst e
        exact pm_eqQ hj q h1
theorem pm_161 (hf : ¬ fr ≤ 0) (hp : pm_V x1 x7 24) (hw : pm_V x5 x10 4) (hq : ((x4 < 0 ∨ nI 24 ≤ x4) ∧ x9 = 0) ∨ (∃ k, k < 24 ∧ x4 = nI k ∧ x9 = 1 ∧ pm_R a1 a2 a4 a5 a7 a8 z0 x1 x2 x3 k)) : wL_lawOf_161 (fun r _ => r = 1) mc ms x1 x2 x3 x4 x5 x7 x9 x10 z0 kc ks fr hd sc a1 a2 a3 a4 a5 a6 a7 a8 a9 a10 a11 := by
  unfold wL_lawOf_161
  rcases hq with ⟨hb, rfl⟩ | ⟨k, hk, rfl, rfl, h⟩
  · exact pm_readB hb (br_t rfl (pm_207 rfl hp (Or.inl ⟨hb, rfl⟩)))
  · rcases hw with ⟨hb, rfl⟩ | ⟨v, hv, rfl, rfl⟩
    · refine pm_readW hk hb (br_f (by decide) (br_t rfl (pm_207 rfl hp (Or.inr ⟨k, hk, rfl, rfl, ?_⟩))))
      exact h.elim (fun t => Or.inl ⟨t.1, t.2.1⟩) (fun t => Or.inr ⟨t.1, t.2.2.2⟩)
    · rcases h with ⟨f, g, m⟩ | ⟨q, h4, rfl, g⟩
      · have S : ∀ b3 : Nat → Int32, ∀ y z : Int32, z = y → wL_lawOf_207 (fun r _ => r = 1) mc ms x1 (nI k) x7 1 y z kc ks fr hd sc a1 a2 b3 a4 a5 a6 a7 a8 a9 a10 a11 := fun b3 y z e => pm_207 e hp (Or.inr ⟨k, hk, rfl, rfl, Or.inl ⟨f, g⟩⟩)
        exact pm_readF hk hv f (br_f (by decide) (br_f (by decide) (br_c (fun z => S _ _ _ ((m v hv).1 z)) (fun z => br_c (fun e => S _ _ _ (((m v hv).2 z).1 e)) (fun e => S _ _ _ (((m v hv).2 z).2 e))))))
      · refine pm_readQ hk hv hf h4 q (fun b1 b2 b3 b4 b5 b6 fb => br_f (by decide) (br_f (by decide) (br_t rfl (pm_207 rfl hp (Or.inr ⟨k, hk, rfl, rfl, Or.inl ⟨fb, fun j hj e => ?_⟩⟩)))))
        rw [g j hj e]
        exact fb
theorem pm_141 (hz : z1 = z0) (h8 : x8 = 0 ∨ x8 = 1) (hf : ¬ fr ≤ 0) (hp : pm_V x1 x7 24) (hw : pm_V x5 x10 4) (hq : ((x4 < 0 ∨ nI 24 ≤ x4) ∧ x9 = 0) ∨ (∃ k, k < 24 ∧ x4 = nI k ∧ x9 = 1 ∧ pm_R a1 a2 a4 a5 a7 a8 x8 x1 x2 x3 k)) : wL_lawOf_141 (fun r _ => r = 1) mc ms x1 x2 x3 x4 x5 x7 x8 x9 x10 z0 z1 kc ks fr hd sc a1 a2 a3 a4 a5 a6 a7 a8 a9 a10 a11 := by
  unfold wL_lawOf_141
  refine br_t hz ?_
  rcases h8 with rfl | rfl
  · exact br_t rfl (pm_161 hf hp hw hq)
  · refine br_f (by decide) ?_
    rcases hq with ⟨hb, rfl⟩ | ⟨k, hk, rfl, rfl, h⟩
    · exact br_t rfl (pm_161 hf hp hw (Or.inl ⟨hb, rfl⟩))
    · exact br_f (by decide) (pm_161 hf hp hw (Or.inr ⟨k, hk, rfl, rfl, h⟩))
theorem pm_116 (hf : ¬ fr ≤ 0) (hp : pm_V x1 x7 24) (hq : pm_V x4 x9 24) (hw : pm_V x5 z0 4) (h : pm_W a1 a2 a4 a5 a7 a8 x8 x1 x2 x3) : wL_lawOf_116 (fun r _ => r = 1) mc ms x1 x2 x3 x4 x5 x7 x8 x9 z0 kc ks fr hd sc a1 a2 a3 a4 a5 a6 a7 a8 a9 a10 a11 := by
  have h8 : x8 = 0 ∨ x8 = 1 := h.elim (fun t => Or.inl t.1) (fun t => Or.inr t.1)
  unfold wL_lawOf_116
  rcases hp with ⟨hb, rfl⟩ | ⟨j, hj, rfl, rfl⟩
  · refine pm_copyB1 hb (br_t rfl (pm_141 rfl h8 hf (Or.inl ⟨hb, rfl⟩) hw ?_))
    rcases hq with t | ⟨k, hk, e, e'⟩
    · exact Or.inl t
    · refine Or.inr ⟨k, hk, e, e', ?_⟩
      rcases h with ⟨e8, q, h4⟩ | ⟨e8, m, j, hj, ej, _⟩
      · exact Or.inr ⟨q k hk, h4, e8, fun j hj ej => (pm_nbad (by decide) hj hb ej).elim⟩
      · exact (pm_nbad (by decide) hj hb ej).elim
  · have hp : pm_V (nI j) 1 24 := Or.inr ⟨j, hj, rfl, rfl⟩
    rcases hq with ⟨hb, rfl⟩ | ⟨k, hk, rfl, rfl⟩
    · exact pm_copyB2 hj hb (br_f (by decide) (br_t rfl (pm_141 rfl h8 hf hp hw (Or.inl ⟨hb, rfl⟩))))
    · have inj : ∀ i, i < 24 → nI j = nI i → i = j := fun i hi e => ((nI_eq (by omega) (by omega)).mp e).symm
      by_cases ejk : j = k
      · subst ejk
        refine pm_copyE hj (br_f (by decide) (br_f (by decide) (pm_141 rfl h8 hf hp hw (Or.inr ⟨j, hj, rfl, rfl, ?_⟩))))
        rcases h with ⟨e8, q, h4⟩ | ⟨e8, m, i, hi, ei, f, q⟩
        · exact Or.inr ⟨q j hj, h4, e8, inj⟩
        · have e := inj i hi ei
          subst e
          exact Or.inl ⟨f, fun i' hi' ei' => by rw [inj i' hi' ei']; exact f, by rw [e8]; exact m⟩
      · rcases h with ⟨e8, q, h4⟩ | ⟨e8, m, i, hi, ei, f, q⟩
        · refine pm_copyQ hj hk ejk hf h4 (q j hj) (q k hk) (fun b1 b2 b3 b4 b5 b6 fj fk hb => br_f (by decide) (br_f (by decide) (pm_141 rfl h8 hf hp hw (Or.inr ⟨k, hk, rfl, rfl, Or.inl ⟨fk, fun i' hi' ei' => by rw [inj i' hi' ei']; exact fj, fun v hv => ⟨fun _ => hb v hv, fun t => absurd e8 t⟩⟩⟩))))
        · have e := inj i hi ei
          subst e
          refine pm_copyF hj hk ejk f (q k hk (fun t => ejk t.symm)) (fun b1 b2 b3 b4 b6 fj fk => br_f (by decide) (br_f (by decide) (pm_141 rfl h8 hf hp hw (Or.inr ⟨k, hk, rfl, rfl, Or.inl ⟨fk, fun i' hi' ei' => by rw [inj i' hi' ei']; exact fj, by rw [e8]; exact m⟩⟩))))
theorem pm_98 (hf : ¬ fr ≤ 0) (hp : pm_V x1 x7 24) (hq : pm_V x4 z0 24) (h : pm_W a1 a2 a4 a5 a7 a8 x8 x1 x2 x3) : wL_lawOf_98 (fun r _ => r = 1) mc ms x1 x2 x3 x4 x5 x7 x8 z0 kc ks fr hd sc a1 a2 a3 a4 a5 a6 a7 a8 a9 a10 a11 :=
  pm_flag (n := 3) (P := fun b => wL_lawOf_116 (fun r _ => r = 1) mc ms x1 x2 x3 x4 x5 x7 x8 z0 b kc ks fr hd sc a1 a2 a3 a4 a5 a6 a7 a8 a9 a10 a11) (by decide) rfl (fun b hb => pm_116 hf hp hq hb h)
theorem pm_76 (hz : z1 = z0) (hf : ¬ fr ≤ 0) (hp : pm_V x1 x7 24) (h : pm_W a1 a2 a4 a5 a7 a8 x8 x1 x2 x3) : wL_lawOf_76 (fun r _ => r = 1) mc ms x1 x2 x3 x4 x5 x7 x8 z0 z1 kc ks fr hd sc a1 a2 a3 a4 a5 a6 a7 a8 a9 a10 a11 :=
  br_t hz (pm_flag (n := 23) (P := fun b => wL_lawOf_98 (fun r _ => r = 1) mc ms x1 x2 x3 x4 x5 x7 x8 b kc ks fr hd sc a1 a2 a3 a4 a5 a6 a7 a8 a9 a10 a11) (by decide) rfl (fun b hb => pm_98 hf hp hb h))
/-- write: nothing was done -/
theorem pm_46n (hf : ¬ fr ≤ 0) (hp : pm_V x1 x7 24) (hw : x7 = 0 ∨ (x2 < 0 ∨ nI 4 ≤ x2)) (hQ : ∀ k, k < 24 → pm_Q a1 a2 a7 a8 k) (h4 : a4 0 = 0) : wL_lawOf_46 (fun r _ => r = 1) mc ms x1 x2 x3 x4 x5 x7 0 kc ks fr hd sc a1 a2 a3 a4 a5 a6 a7 a8 a9 a10 a11 := by
  have W : pm_W a1 a2 a4 a5 a7 a8 0 x1 x2 x3 := Or.inl ⟨rfl, hQ, h4⟩
  unfold wL_lawOf_46
  rcases hp with ⟨hb, rfl⟩ | ⟨j, hj, rfl, rfl⟩
  · exact pm_writeB hb (br_t rfl (pm_76 rfl hf (Or.inl ⟨hb, rfl⟩) W))
  · exact pm_writeW hj (hw.resolve_left (by decide)) (br_f (by decide) (br_t rfl (pm_76 rfl hf (Or.inr ⟨j, hj, rfl, rfl⟩) W)))
/-- write: the word was put -/
theorem pm_46p {j w : Nat} (hf : ¬ fr ≤ 0) (hj : j < 24) (hw : w < 4) (hQ : ∀ k, k < 24 → pm_Q a1 a2 a7 a8 k) (h4 : a4 0 = 0) : wL_lawOf_46 (fun r _ => r = 1) mc ms (nI j) (nI w) x3 x4 x5 1 1 kc ks fr hd sc a1 a2 a3 a4 a5 a6 a7 a8 a9 a10 a11 := by
  unfold wL_lawOf_46
  refine pm_writeQ hj hw hf h4 (hQ j hj) (fun b5 hb => br_f (by decide) (br_f (by decide) (pm_76 rfl hf (Or.inr ⟨j, hj, rfl, rfl⟩) (Or.inr ⟨rfl, fun v hv => ⟨fun t => absurd t (by decide), fun _ => ⟨fun e => ?_, fun e => ?_⟩⟩, j, hj, rfl, pm_QF, fun k hk hn => pm_Qn hn (hQ k hk)⟩))))
  · rw [hb v hv, if_pos ((nI_eq (by omega) (by omega)).mp e)]
  · rw [hb v hv, if_neg (fun t => e (by rw [t]))]
theorem pm_25 (hf : ¬ fr ≤ 0) (hp : pm_V x1 z0 24) (hQ : ∀ k, k < 24 → pm_Q a1 a2 a7 a8 k) (h4 : a4 0 = 0) : wL_lawOf_25 (fun r _ => r = 1) mc ms x1 x2 x3 x4 x5 z0 kc ks fr hd sc a1 a2 a3 a4 a5 a6 a7 a8 a9 a10 a11 := by
  unfold wL_lawOf_25
  refine br_c (fun z => pm_46n hf hp (Or.inl z) hQ h4) (fun z => br_c (fun y => pm_46n hf hp (Or.inr (Or.inl y)) hQ h4) (fun y => br_c (fun t => pm_46n hf hp (Or.inr (Or.inr (pm_hi (n := 3) (by decide) rfl t))) hQ h4) (fun t => ?_)))
  obtain ⟨w, hw, rfl⟩ := pm_lo (n := 3) (by decide) rfl y t
  rcases hp with ⟨_, rfl⟩ | ⟨j, hj, rfl, rfl⟩
  · exact absurd rfl z
  · exact pm_46p hf hj hw hQ h4
theorem pm_lawOf {p0 p1 p2 p3 p4 p5 : Int32} : wpL_lawOf (fun r _ => r = 1) 188 3008 () p0 p1 p2 p3 p4 p5 := by
  unfold wpL_lawOf
  refine ⟨by decide, by decide, 11, 368, by decide, by decide, pm_init (by decide) (by decide) (fun fr b1 b2 b3 b4 b5 b6 b7 b8 b9 b10 b11 hf hQ h4 => ?_)⟩
  exact pm_flag (n := 23) (P := fun b => wL_lawOf_25 (fun r _ => r = 1) 188 3008 p1 p2 p3 p4 p5 b (1 + 11) (14 + 368) fr 0 0 b1 b2 b3 b4 b5 b6 b7 b8 b9 b10 b11) (by decide) rfl (fun b hb => pm_25 hf hb hQ h4)
end
theorem pm_cell {post : Int32 → Prop} {L : Nat} {xs : Nat → Int32} (hL : L ≤ 6) (i : Nat) (hi : i < 6) (h : ∀ r, post r) : wpL_cellAt post L xs () (nI i) :=
  pk_le L i (fun _ => h 0) (fun z => ⟨pk_in i L z, h _⟩)
theorem i_vc (xs : Nat → Int32) (L : Nat) (hL : L ≤ 6) : wpL_law (fun r => r = 1) L xs := by
  unfold wpL_law
  exact pm_cell hL 0 (by decide) (fun _ => pm_cell hL 1 (by decide) (fun _ => pm_cell hL 2 (by decide) (fun _ => pm_cell hL 3 (by decide) (fun _ => pm_cell hL 4 (by decide) (fun _ => pm_cell hL 5 (by decide) (fun _ => ⟨188, 3008, by decide, by decide, pm_lawOf⟩))))))
end
