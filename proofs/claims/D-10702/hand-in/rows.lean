section
/-! ===== words: lengthOf, join, isGoodWord, rowAfter ===== -/
theorem ld_01 : (0 : Int32) + 1 = 1 := by decide
theorem ld_11 : (1 : Int32) + 1 = 2 := by decide
/-- lengthOf's loop: it answers some r ≤ 30, the same one for every post -/
theorem ld_len4 (x0 : Int32) : ∀ c k m : Nat, k + c = 31 → m ≤ 30 → ∃ r : Nat, r ≤ 30 ∧ ∀ post : Int32 → Prop, post (nI r) → wX_lengthOf_4 post x0 (c + 1) (nI m) (nI k)
  | 0, k, m, hk, hm => ⟨m, hm, fun post hp => pk_le 31 k (fun _ => hp) (fun z => absurd z (by omega))⟩
  | c + 1, k, m, hk, hm => by
    by_cases e : (x0.toUInt32 >>> ((nI k).toUInt32 &&& Int32.toUInt32 31)).toInt32 = 0
    · obtain ⟨r, hr, h⟩ := ld_len4 x0 c (k + 1) m (by omega) hm
      exact ⟨r, hr, fun post hp => pk_le 31 k (fun z => absurd z (by omega)) (fun _ => br_t e (nm_r (nI_1 k) (h post hp)))⟩
    · obtain ⟨r, hr, h⟩ := ld_len4 x0 c (k + 1) k (by omega) (by omega)
      exact ⟨r, hr, fun post hp => pk_le 31 k (fun z => absurd z (by omega)) (fun _ => br_f e (nm_r (nI_1 k) (h post hp)))⟩
theorem ld_len (p0 : Int32) : ∃ r : Nat, r ≤ 30 ∧ ∀ post : Int32 → Prop, post (nI r) → wpX_lengthOf post () p0 := by
  obtain ⟨r, hr, h⟩ := ld_len4 p0 30 1 0 (by omega) (by omega)
  exact ⟨r, hr, fun post hp => ⟨31, h post hp⟩⟩
theorem ld_join (p0 p1 : Int32) : ∃ w : Int32, ∀ post : Int32 → Prop, post w → wpX_join post () p0 p1 := by
  obtain ⟨r, _, h⟩ := ld_len p1
  exact ⟨(p0 <<< (nI r &&& 31)) ||| (p1 &&& (((1 : Int32) <<< (nI r &&& 31)) - 1)), fun post hp => h _ hp⟩
/-- a table of arrows whose places 0 and 1 hold 0, read at 2 * 0 + a letter -/
theorem ld_at {a : Nat → Int32} (h0 : a 0 = 0) (h1 : a 1 = 0) (e : Int32) : vp_in ((2 * (0 : Int32)) + (e &&& 1)) 14 ∧ a ((2 * (0 : Int32)) + (e &&& 1)).toNatClampNeg = 0 := by
  obtain ⟨j, hj, h⟩ := pk_andE e (m := 1) 1 (by decide)
  have h' : (2 * (0 : Int32)) + (e &&& 1) = nI j := by
    rw [h, show (2 : Int32) * 0 = 0 from by decide, Int32.zero_add]
  have hj' : j < 2 := hj
  rw [h', nI_clamp (by omega)]
  refine ⟨vp_in_nI (by omega) (by omega), ?_⟩
  have : j = 0 ∨ j = 1 := by omega
  rcases this with e0 | e0
  · rw [e0]; exact h0
  · rw [e0]; exact h1
theorem ld_nb {b : Int32} (hb : b = 0 ∨ b = 1) : narrow .boolean (.int b) = .int b := by
  rcases hb with e | e
  · rw [e]; rfl
  · rw [e]; rfl
section
variable {post : Int32 → Prop} {lr ro en qe : Int32} {a1 a2 a3 a4 a5 a6 a7 a8 a9 a10 a11 a12 : Nat → Int32}
theorem ld_gw9 (x1 : Int32) (h0 : a1 0 = 0) (h1 : a1 1 = 0) (hb : a2 0 = 0 ∨ a2 0 = 1) (hp : post (a2 0)) : ∀ c : Nat, c ≤ 30 → wX_isGoodWord_9 post x1 lr ro en qe a1 a2 a3 a4 a5 a6 a7 a8 a9 a10 a11 a12 (c + 1) 0 (nI c - 1)
  | 0, _ => br_t (by decide) ⟨pk_in 0 7 (by omega), ld_nb hb, hp⟩
  | c + 1, hc => by
    rw [nI_pred]
    obtain ⟨hi, he⟩ := ld_at h0 h1 ((x1.toUInt32 >>> ((nI c).toUInt32 &&& Int32.toUInt32 31)).toInt32)
    exact br_f (nI_pos (by omega)) ⟨hi, nm_r he (nm_r (Int32.sub_eq_add_neg (nI c) 1).symm (ld_gw9 x1 h0 h1 hb hp c (by omega)))⟩
theorem ld_gw (x : Int32) (h0 : a1 0 = 0) (h1 : a1 1 = 0) (hb : a2 0 = 0 ∨ a2 0 = 1) (hp : post (a2 0)) : wpX_isGoodWord post (lr, ro, en, qe, a1, a2, a3, a4, a5, a6, a7, a8, a9, a10, a11, a12) x := by
  obtain ⟨r, hr, h⟩ := ld_len x
  exact h _ (nm_e ⟨r + 1, ld_gw9 x h0 h1 hb hp r hr⟩)
theorem ld_ra14 {x1 x2 x4 : Int32} (hx : x4 - x2 = 0) (g0 : a6 0 = 0) (g1 : a6 1 = 0) (hp : post 0) : ∀ c : Nat, c ≤ 30 → wX_rowAfter_14 post x1 x2 x4 lr ro en qe a1 a2 a3 a4 a5 a6 a7 a8 a9 a10 a11 a12 (c + 1) 0 (nI c - 1)
  | 0, _ => br_t (by rw [hx]; decide) hp
  | c + 1, hc => by
    rw [nI_pred]
    obtain ⟨hi, he⟩ := ld_at g0 g1 ((x1.toUInt32 >>> ((nI c).toUInt32 &&& Int32.toUInt32 31)).toInt32)
    exact br_f (by rw [hx]; exact nI_pos (by omega)) ⟨hi, nm_r he (nm_r (Int32.sub_eq_add_neg (nI c) 1).symm (ld_ra14 hx g0 g1 hp c (by omega)))⟩
/-- the row behind a word is row 0, its length being r -/
theorem ld_ra {x : Int32} {r : Nat} (hr : r ≤ 30) (h : ∀ q : Int32 → Prop, q (nI r) → wpX_lengthOf q () x) (g0 : a6 0 = 0) (g1 : a6 1 = 0) (hp : post 0) : wpX_rowAfter post (lr, ro, en, qe, a1, a2, a3, a4, a5, a6, a7, a8, a9, a10, a11, a12) x (nI r) :=
  h _ (nm_e ⟨r + 1, ld_ra14 (Int32.sub_self _) g0 g1 hp r hr⟩)
end
end
section
/-! ===== the table: answersOf, fillRows, rowWith, closeTable, the searches, orderKinds, learn ===== -/
theorem ld_u0 {s : Nat → Int32} {i : Nat} (h : 0 < i → s 0 = 0) : upd s i 0 0 = 0 := by
  by_cases e : i = 0
  · rw [e, pk_us]
  · rw [pk_un (by omega)]
    exact h (by omega)
section
variable {lr ro en qe : Int32} {a1 a2 a3 a4 a5 a6 a7 a8 a9 a10 a11 a12 : Nat → Int32}
theorem ld_ans {post : Int32 → Prop} (x : Int32) (h0 : a1 0 = 0) (h1 : a1 1 = 0) (hb : a2 0 = 0 ∨ a2 0 = 1) (hp : post (a2 0)) : wpX_answersOf post (lr, ro, 1, qe, a1, a2, a3, a4, a5, a6, a7, a8, a9, a10, a11, a12) x := by
  obtain ⟨w, hw⟩ := ld_join x (a5 (0 : Int32).toNatClampNeg)
  have E : wX_answersOf_4 post x lr ro 1 qe a1 a2 a3 a4 a5 a6 a7 a8 a9 a10 a11 a12 1 (a2 0) 1 := br_t (by decide) hp
  refine ⟨2, br_f (by decide) ⟨pk_in 0 10 (by omega), hw _ (ld_gw w h0 h1 hb (br_c (fun e => ?_) (fun e => ?_)))⟩⟩
  · exact nm_r (show (0 : Int32) ||| 0 = a2 0 from by rw [e]; decide) (nm_r ld_01 E)
  · exact nm_r (show (0 : Int32) ||| ((1 : Int32) <<< ((0 : Int32) &&& 31)) = a2 0 from by rw [hb.resolve_left e]; decide) (nm_r ld_01 E)
theorem ld_fill {post : St2 → Prop} (h0 : a1 0 = 0) (h1 : a1 1 = 0) (hb : a2 0 = 0 ∨ a2 0 = 1) (hp : post (lr, 1, 1, qe, a1, a2, a3, upd a4 0 (a2 0), a5, a6, a7, a8, a9, a10, a11, a12)) : wpX_fillRows post (lr, 1, 1, qe, a1, a2, a3, a4, a5, a6, a7, a8, a9, a10, a11, a12) :=
  ⟨2, br_f (by decide) ⟨pk_in 0 7 (by omega), ld_ans _ h0 h1 hb ⟨pk_in 0 7 (by omega), nm_e (nm_r ld_01 (br_t (by decide) hp))⟩⟩⟩
theorem ld_rw {post : Int32 → Prop} {x : Int32} (h : a4 0 = x) (hp : post 0) : wpX_rowWith post (lr, 1, en, qe, a1, a2, a3, a4, a5, a6, a7, a8, a9, a10, a11, a12) x :=
  ⟨1, br_f (by decide) ⟨pk_in 0 7 (by omega), br_t h hp⟩⟩
theorem ld_close {post : St2 → Prop} (h0 : a1 0 = 0) (h1 : a1 1 = 0) (hb : a2 0 = 0 ∨ a2 0 = 1) (ha : a4 0 = a2 0) (hp : post (lr, 1, 1, qe, a1, a2, a3, a4, a5, upd (upd a6 0 0) 1 0, a7, a8, a9, a10, a11, a12)) : wpX_closeTable post (lr, 1, 1, qe, a1, a2, a3, a4, a5, a6, a7, a8, a9, a10, a11, a12) := by
  refine ⟨2, br_f (by decide) (br_f (by decide) ⟨3, ?_⟩)⟩
  refine br_f (by decide) ⟨pk_in 0 7 (by omega), nm_e (ld_ans _ h0 h1 hb (ld_rw ha (br_t (by decide) ⟨pk_in 0 14 (by omega), nm_e (nm_r ld_01 ?_)⟩)))⟩
  refine br_f (by decide) ⟨pk_in 0 7 (by omega), nm_e (ld_ans _ h0 h1 hb (ld_rw ha (br_t (by decide) ⟨pk_in 1 14 (by omega), nm_e (nm_r ld_11 ?_)⟩)))⟩
  exact br_t (by decide) (nm_r ld_01 (br_t (by decide) hp))
theorem ld_reach0 {post : St2 → Prop} {w : Int32} (h : a7 0 = 0) (hp : post (lr, ro, en, 1, a1, a2, a3, a4, a5, a6, upd a7 0 1, upd a8 0 0, upd a9 0 w, a10, a11, a12)) : wpX_reachPair post (lr, ro, en, 0, a1, a2, a3, a4, a5, a6, a7, a8, a9, a10, a11, a12) 0 0 w :=
  ⟨pk_in 0 49 (by omega), br_t h ⟨pk_in 0 49 (by omega), nm_e ⟨pk_in 0 49 (by omega), nm_e ⟨pk_in 0 49 (by omega), nm_e (nm_r ld_01 hp)⟩⟩⟩⟩
theorem ld_reach1 {post : St2 → Prop} {p q w : Int32} (ep : p = 0) (eq : q = 0) (h : ¬ a7 0 = 0) (hp : post (lr, ro, en, qe, a1, a2, a3, a4, a5, a6, a7, a8, a9, a10, a11, a12)) : wpX_reachPair post (lr, ro, en, qe, a1, a2, a3, a4, a5, a6, a7, a8, a9, a10, a11, a12) p q w := by
  subst ep eq
  exact ⟨pk_in 0 49 (by omega), br_f h hp⟩
theorem ld_start {post : St2 → Prop} (hp : ∀ s7 : Nat → Int32, s7 0 = 0 → post (lr, ro, en, 1, a1, a2, a3, a4, a5, a6, upd s7 0 1, upd a8 0 0, upd a9 0 1, a10, a11, a12)) : wpX_startSearch post (lr, ro, en, qe, a1, a2, a3, a4, a5, a6, a7, a8, a9, a10, a11, a12) 0 0 :=
  pk_loop (fun n i s => wX_startSearch_2 post 0 0 lr ro en qe n (nI i) a1 a2 a3 a4 a5 a6 s a8 a9 a10 a11 a12) (fun i s => 0 < i → s 0 = 0) 49 0 a7 (by omega) (fun h => absurd h (by omega))
    (fun n s h => pk_le 49 49 (fun _ => ld_reach0 (h (by omega)) (hp s (h (by omega)))) (fun z => absurd z (by omega)))
    (fun n i s hi h hw => pk_le 49 i (fun z => absurd z (by omega)) (fun _ => ⟨pk_in i 49 hi, nm_r (show upd s (nI i).toNatClampNeg 0 = upd s i 0 from by rw [nI_clamp (by omega)]) (nm_r (nI_1 i) (hw _ (fun _ => ld_u0 h)))⟩))
end
section
variable {lr ro en qe : Int32} {a1 a2 a3 a4 a5 a6 a7 a8 a9 a10 a11 a12 : Nat → Int32}
theorem ld_find {post : Int32 → St2 → Prop} (h0 : a1 0 = 0) (h1 : a1 1 = 0) (hb : a2 0 = 0 ∨ a2 0 = 1) (ha : a4 0 = a2 0) (g0 : a6 0 = 0) (g1 : a6 1 = 0) (hp : ∀ s7 s8 s9 : Nat → Int32, post 0 (lr, ro, en, 1, a1, a2, a3, a4, a5, a6, s7, s8, s9, a10, a11, a12)) : wpX_findWrong post (lr, ro, en, qe, a1, a2, a3, a4, a5, a6, a7, a8, a9, a10, a11, a12) := by
  refine ld_start (fun s7 hs => ⟨2, ?_⟩)
  have e8 : upd a8 0 0 (0 : Int32).toNatClampNeg = 0 := by rw [sb_cl0, pk_us]
  have e1 : upd a8 0 0 (0 : Int32).toNatClampNeg / 7 = 0 := by rw [e8]; decide
  have e2 : upd a8 0 0 (0 : Int32).toNatClampNeg - upd a8 0 0 (0 : Int32).toNatClampNeg / 7 * 7 = 0 := by rw [e8]; decide
  have ne : ¬ upd s7 0 1 0 = 0 := by rw [pk_us]; decide
  have C : ∃ fu : Nat, wX_findWrong_77 post (wX_findWrong_8 post 1) 0 0 0 fu 0 lr ro en 1 a1 a2 a3 a4 a5 a6 (upd s7 0 1) (upd a8 0 0) (upd a9 0 1) a10 a11 a12 := by
    refine ⟨3, br_f (by decide) ⟨pk_in 0 14 (by omega), pk_in 0 14 (by omega), pk_in 0 49 (by omega), ld_reach1 g0 h0 ne (nm_r ld_01 ?_)⟩⟩
    refine br_f (by decide) ⟨pk_in 1 14 (by omega), pk_in 1 14 (by omega), pk_in 0 49 (by omega), ld_reach1 g1 h1 ne (nm_r ld_11 ?_)⟩
    exact br_t (by decide) (nm_r ld_01 (br_t (by decide) (hp _ _ _)))
  refine br_f (by decide) (br_f (by decide) ⟨pk_in 0 49 (by omega), by decide, nm_r e1 ⟨pk_in 0 49 (by omega), by decide, nm_r e2 ⟨pk_in 0 7 (by omega), ?_⟩⟩⟩)
  rcases hb with b0 | b1
  · exact br_t (show a4 0 &&& 1 = 0 from by rw [ha, b0]; decide) ⟨pk_in 0 7 (by omega), br_t b0.symm C⟩
  · exact br_f (show ¬ a4 0 &&& 1 = 0 from by rw [ha, b1]; decide) ⟨pk_in 0 7 (by omega), br_t b1.symm C⟩
theorem ld_ok46 {post : St2 → Prop} (g0 : a6 0 = 0) (g1 : a6 1 = 0) (k10 : a10 0 = 0) (k11 : a11 0 = 0) (hp : post (lr, ro, en, qe, a1, a2, a3, a4, a5, a6, a7, a8, a9, a10, a11, a12)) : wX_orderKinds_46 post lr ro en qe 2 1 0 a1 a2 a3 a4 a5 a6 a7 a8 a9 a10 a11 a12 := by
  have k : a10 (0 : Int32).toNatClampNeg = 0 := k10
  have e0 : (2 * (a10 (0 : Int32).toNatClampNeg)) + 0 = nI 0 := by rw [k]; decide
  have e1 : (2 * (a10 (0 : Int32).toNatClampNeg)) + 1 = nI 1 := by rw [k]; decide
  have x0 : a6 ((2 * (a10 (0 : Int32).toNatClampNeg)) + 0).toNatClampNeg = 0 := by
    rw [e0, nI_clamp (by omega)]
    exact g0
  have x1 : a6 ((2 * (a10 (0 : Int32).toNatClampNeg)) + 1).toNatClampNeg = 0 := by
    rw [e1, nI_clamp (by omega)]
    exact g1
  have t : (0 : Int32) ≤ a11 (0 : Int32).toNatClampNeg := by
    rw [sb_cl0, k11]
    decide
  refine br_f (by decide) (br_f (by decide) ⟨3, br_f (by decide) ⟨pk_in 0 7 (by omega), pk_in 0 14 (by omega) e0, nm_r x0 ⟨pk_in 0 7 (by omega), br_t t (nm_r ld_01 ?_)⟩⟩⟩)
  refine br_f (by decide) ⟨pk_in 0 7 (by omega), pk_in 1 14 (by omega) e1, nm_r x1 ⟨pk_in 0 7 (by omega), br_t t (nm_r ld_11 ?_)⟩⟩
  exact br_t (by decide) (nm_r ld_01 (br_t (by decide) hp))
theorem ld_order {post : St2 → Prop} (g0 : a6 0 = 0) (g1 : a6 1 = 0) (hp : ∀ t : Nat → Int32, post (lr, ro, en, qe, a1, a2, a3, a4, a5, a6, a7, a8, a9, upd a10 0 0, upd t 0 0, upd a12 0 1)) : wpX_orderKinds post (lr, ro, en, qe, a1, a2, a3, a4, a5, a6, a7, a8, a9, a10, a11, a12) :=
  pk_loop (fun n i s => wX_orderKinds_2 post lr ro en qe n (nI i) a1 a2 a3 a4 a5 a6 a7 a8 a9 a10 s a12) (fun _ _ => True) 7 0 a11 (by omega) trivial
    (fun n s _ => pk_le 7 7 (fun _ => nm_e (nm_e (nm_e ⟨2, ld_ok46 g0 g1 pk_us pk_us (hp s)⟩))) (fun z => absurd z (by omega)))
    (fun n i s hi _ hw => pk_le 7 i (fun z => absurd z (by omega)) (fun _ => ⟨pk_in i 7 hi, nm_e (nm_r (nI_1 i) (hw _ trivial))⟩))
end
/-- what a learned desk holds, b being whether the hidden machine's state 0 is good -/
def ld_K (b : Int32) (a1 a2 a4 a6 a10 a11 a12 : Nat → Int32) : Prop := (b = 0 ∨ b = 1) ∧ a1 0 = 0 ∧ a1 1 = 0 ∧ a2 0 = b ∧ a4 0 = b ∧ a6 0 = 0 ∧ a6 1 = 0 ∧ a10 0 = 0 ∧ a11 0 = 0 ∧ a12 0 = 1
section
variable {ro en qe : Int32} {a1 a2 a3 a4 a5 a6 a7 a8 a9 a10 a11 a12 : Nat → Int32}
theorem ld_learn0 {post : St2 → Prop} (h0 : a1 0 = 0) (h1 : a1 1 = 0) (hb : a2 0 = 0 ∨ a2 0 = 1)
    (hp : ∀ b3 b4 b5 b6 b7 b8 b9 b10 b11 b12 : Nat → Int32, ld_K (a2 0) a1 a2 b4 b6 b10 b11 b12 → post (1, 1, 1, 1, a1, a2, b3, b4, b5, b6, b7, b8, b9, b10, b11, b12)) : wpX_learn post (0, ro, en, qe, a1, a2, a3, a4, a5, a6, a7, a8, a9, a10, a11, a12) := by
  have g0 : upd (upd a6 0 0) 1 0 0 = 0 := by rw [pk_un (by omega), pk_us]
  have g1 : upd (upd a6 0 0) 1 0 1 = 0 := by rw [pk_us]
  refine br_t rfl (nm_e (nm_e ⟨2, br_f (by decide) (br_f (by decide) (ld_fill h0 h1 hb (ld_close h0 h1 hb pk_us (ld_find h0 h1 hb pk_us g0 g1 (fun s7 s8 s9 => ?_)))))⟩))
  refine br_t (by decide) (br_t rfl (nm_r ld_01 (br_f (by decide) (br_t rfl (ld_order g0 g1 (fun t => ?_))))))
  exact hp _ _ _ _ _ _ _ _ _ _ ⟨hb, h0, h1, rfl, pk_us, g0, g1, pk_us, pk_us, pk_us⟩
theorem ld_learn1 {post : St2 → Prop} (hp : post (1, ro, en, qe, a1, a2, a3, a4, a5, a6, a7, a8, a9, a10, a11, a12)) : wpX_learn post (1, ro, en, qe, a1, a2, a3, a4, a5, a6, a7, a8, a9, a10, a11, a12) := br_f (by decide) hp
end
end
section
/-! ===== the methods over a learned desk ===== -/
theorem ld_ge1 {k : Int32} (h : ¬ k < 0) (hk : ¬ k = 0) : ¬ k < 1 := by
  obtain ⟨j, hj, e⟩ := nI_of h
  have h0 : j ≠ 0 := fun z => hk (by rw [e, z]; rfl)
  rw [e]
  exact nI_nlt (b := 1) (by omega) hj
theorem ld_out {k : Int32} {P Q : Prop} (hk : ¬ k = 0) (p : P) : (k < 0 → P) ∧ (¬ k < 0 → ((k < 1 → Q) ∧ (¬ k < 1 → P))) :=
  br_c (fun _ => p) (fun h => br_f (ld_ge1 h hk) p)
theorem ld_and1 {b : Int32} (hb : b = 0 ∨ b = 1) : b &&& 1 = b := by
  rcases hb with e | e
  · rw [e]; decide
  · rw [e]; decide
section
variable {ro en qe : Int32} {a1 a2 a3 a4 a5 a6 a7 a8 a9 a10 a11 a12 : Nat → Int32}
theorem ld_kinds {post : Int32 → St2 → Prop} (h0 : a1 0 = 0) (h1 : a1 1 = 0) (hb : a2 0 = 0 ∨ a2 0 = 1)
    (hp : ∀ b3 b4 b5 b6 b7 b8 b9 b10 b11 b12 : Nat → Int32, ld_K (a2 0) a1 a2 b4 b6 b10 b11 b12 → post 1 (1, 1, 1, 1, a1, a2, b3, b4, b5, b6, b7, b8, b9, b10, b11, b12)) : wpX_kinds post (0, ro, en, qe, a1, a2, a3, a4, a5, a6, a7, a8, a9, a10, a11, a12) :=
  ld_learn0 h0 h1 hb hp
end
section
variable {qe b z : Int32} {a1 a2 a3 a4 a5 a6 a7 a8 a9 a10 a11 a12 : Nat → Int32}
theorem ld_ask {post : Int32 → Prop} {x : Int32} (K : ld_K b a1 a2 a4 a6 a10 a11 a12) (hw : ∀ q : Int32 → Prop, q z → wpX_isWord q () x) (p0 : z = 0 → post (-1)) (p1 : ¬ z = 0 → post b) : wpX_ask post (1, 1, 1, qe, a1, a2, a3, a4, a5, a6, a7, a8, a9, a10, a11, a12) x := by
  obtain ⟨hb, h0, h1, k2, k4, g0, g1, k10, k11, k12⟩ := K
  subst k2
  unfold wpX_ask
  refine hw _ ?_
  refine br_c p0 (fun e => ld_gw x h0 h1 hb (br_c (fun f => ?_) (fun f => ?_)))
  · have h := p1 e
    rw [f] at h
    exact h
  · have h := p1 e
    rw [hb.resolve_left f] at h
    exact h
theorem ld_kind {post : Int32 → St2 → Prop} {x : Int32} (K : ld_K b a1 a2 a4 a6 a10 a11 a12) (hw : ∀ q : Int32 → Prop, q z → wpX_isWord q () x) (p0 : z = 0 → post (-1) (1, 1, 1, qe, a1, a2, a3, a4, a5, a6, a7, a8, a9, a10, a11, a12)) (p1 : ¬ z = 0 → ∀ r : Int32, r = 0 → post r (1, 1, 1, qe, a1, a2, a3, a4, a5, a6, a7, a8, a9, a10, a11, a12)) : wpX_kind post (1, 1, 1, qe, a1, a2, a3, a4, a5, a6, a7, a8, a9, a10, a11, a12) x := by
  obtain ⟨hb, h0, h1, k2, k4, g0, g1, k10, k11, k12⟩ := K
  obtain ⟨r, hr, hl⟩ := ld_len x
  unfold wpX_kind
  refine hw _ ?_
  refine br_c p0 (fun e => ld_learn1 ?_)
  refine hl _ ?_
  exact ld_ra hr hl g0 g1 ⟨pk_in 0 7 (by omega), p1 e _ k11⟩
theorem ld_diff {post : Int32 → St2 → Prop} {x : Int32} (K : ld_K b a1 a2 a4 a6 a10 a11 a12) (hw : ∀ q : Int32 → Prop, q z → wpX_isWord q () x) (p0 : z = 0 → post (-1) (1, 1, 1, qe, a1, a2, a3, a4, a5, a6, a7, a8, a9, a10, a11, a12)) (p1 : ¬ z = 0 → ∀ s7 s8 s9 : Nat → Int32, post 0 (1, 1, 1, 1, a1, a2, a3, a4, a5, a6, s7, s8, s9, a10, a11, a12)) : wpX_difference post (1, 1, 1, qe, a1, a2, a3, a4, a5, a6, a7, a8, a9, a10, a11, a12) x 1 := by
  obtain ⟨hb, h0, h1, k2, k4, g0, g1, k10, k11, k12⟩ := K
  obtain ⟨r, hr, hl⟩ := ld_len x
  obtain ⟨m, hm, hl'⟩ := ld_len 1
  unfold wpX_difference
  refine hw _ ?_
  refine br_c p0 (fun e => br_f (by decide) (br_f (by decide) (br_f (by decide) (ld_learn1 ?_))))
  refine hl _ ?_
  refine hl' _ ?_
  refine ld_ra hr hl g0 g1 (ld_ra hm hl' g0 g1 (ld_start (fun s7 hs => ⟨2, ?_⟩)))
  have e8 : upd a8 0 0 (0 : Int32).toNatClampNeg = 0 := by rw [sb_cl0, pk_us]
  have e1 : upd a8 0 0 (0 : Int32).toNatClampNeg / 7 = 0 := by rw [e8]; decide
  have e2 : upd a8 0 0 (0 : Int32).toNatClampNeg - upd a8 0 0 (0 : Int32).toNatClampNeg / 7 * 7 = 0 := by rw [e8]; decide
  have ne : ¬ upd s7 0 1 0 = 0 := by rw [pk_us]; decide
  have C : ∃ fu : Nat, wX_difference_130 post (wX_difference_59 post 1) 0 0 0 fu 0 1 1 1 1 a1 a2 a3 a4 a5 a6 (upd s7 0 1) (upd a8 0 0) (upd a9 0 1) a10 a11 a12 := by
    refine ⟨3, br_f (by decide) ⟨pk_in 0 14 (by omega), pk_in 0 14 (by omega), pk_in 0 49 (by omega), ld_reach1 g0 g0 ne (nm_r ld_01 ?_)⟩⟩
    refine br_f (by decide) ⟨pk_in 1 14 (by omega), pk_in 1 14 (by omega), pk_in 0 49 (by omega), ld_reach1 g1 g1 ne (nm_r ld_11 ?_)⟩
    exact br_t (by decide) (nm_r ld_01 (br_t (by decide) (p1 e _ _ _)))
  have X : ((a4 (0 : Int32).toNatClampNeg) ^^^ (a4 (0 : Int32).toNatClampNeg)) &&& 1 = 0 := by
    rw [Int32.xor_self]
    decide
  exact br_f (by decide) (br_f (by decide) ⟨pk_in 0 49 (by omega), by decide, nm_r e1 ⟨pk_in 0 49 (by omega), by decide, nm_r e2 ⟨pk_in 0 7 (by omega), pk_in 0 7 (by omega), br_t X C⟩⟩⟩)
theorem ld_first {post : Int32 → St2 → Prop} {k : Int32} (K : ld_K b a1 a2 a4 a6 a10 a11 a12) (p0 : k = 0 → ∀ r : Int32, r = 1 → post r (1, 1, 1, qe, a1, a2, a3, a4, a5, a6, a7, a8, a9, a10, a11, a12)) (p1 : ¬ k = 0 → post (-1) (1, 1, 1, qe, a1, a2, a3, a4, a5, a6, a7, a8, a9, a10, a11, a12)) : wpX_first post (1, 1, 1, qe, a1, a2, a3, a4, a5, a6, a7, a8, a9, a10, a11, a12) k := by
  obtain ⟨hb, h0, h1, k2, k4, g0, g1, k10, k11, k12⟩ := K
  refine ld_learn1 ?_
  by_cases e : k = 0
  · have h := p0 e
    subst e
    exact br_f (by decide) (br_t (by decide) ⟨pk_in 0 7 (by omega), h _ k12⟩)
  · exact ld_out e (p1 e)
theorem ld_next {post : Int32 → St2 → Prop} {k l : Int32} (K : ld_K b a1 a2 a4 a6 a10 a11 a12) (p0 : k = 0 → ∀ r : Int32, r = 0 → post r (1, 1, 1, qe, a1, a2, a3, a4, a5, a6, a7, a8, a9, a10, a11, a12)) (p1 : ¬ k = 0 → post (-1) (1, 1, 1, qe, a1, a2, a3, a4, a5, a6, a7, a8, a9, a10, a11, a12)) : wpX_next post (1, 1, 1, qe, a1, a2, a3, a4, a5, a6, a7, a8, a9, a10, a11, a12) k l := by
  obtain ⟨hb, h0, h1, k2, k4, g0, g1, k10, k11, k12⟩ := K
  refine ld_learn1 ?_
  by_cases e : k = 0
  · have h := p0 e
    subst e
    obtain ⟨hi, he⟩ := ld_at g0 g1 l
    have k' : a10 (0 : Int32).toNatClampNeg = 0 := k10
    have e1 : vp_in ((2 * (a10 (0 : Int32).toNatClampNeg)) + (l &&& 1)) 14 := by
      rw [k']
      exact hi
    have e2 : a6 ((2 * (a10 (0 : Int32).toNatClampNeg)) + (l &&& 1)).toNatClampNeg = 0 := by
      rw [k']
      exact he
    exact br_f (by decide) (br_t (by decide) ⟨pk_in 0 7 (by omega), e1, pk_in 0 7 (by omega) e2, h _ (by rw [e2]; exact k11)⟩)
  · exact ld_out e (p1 e)
theorem ld_isGood {post : Int32 → St2 → Prop} {k : Int32} (K : ld_K b a1 a2 a4 a6 a10 a11 a12) (p0 : k = 0 → ∀ r : Int32, r = b → post r (1, 1, 1, qe, a1, a2, a3, a4, a5, a6, a7, a8, a9, a10, a11, a12)) (p1 : ¬ k = 0 → post (-1) (1, 1, 1, qe, a1, a2, a3, a4, a5, a6, a7, a8, a9, a10, a11, a12)) : wpX_isGood post (1, 1, 1, qe, a1, a2, a3, a4, a5, a6, a7, a8, a9, a10, a11, a12) k := by
  obtain ⟨hb, h0, h1, k2, k4, g0, g1, k10, k11, k12⟩ := K
  refine ld_learn1 ?_
  by_cases e : k = 0
  · have h := p0 e
    subst e
    have k' : a10 (0 : Int32).toNatClampNeg = 0 := k10
    have e2 : a4 (a10 (0 : Int32).toNatClampNeg).toNatClampNeg &&& 1 = b := by
      rw [k', sb_cl0, k4]
      exact ld_and1 hb
    exact br_f (by decide) (br_t (by decide) ⟨pk_in 0 7 (by omega), pk_in 0 7 (by omega) k', h _ e2⟩)
  · exact ld_out e (p1 e)
end
end
section
/-! ===== the law, from its end to its beginning ===== -/
section
variable {post : Int32 → St0 → Prop} {mc ms kc ks : Nat} {x0 x2 x3 qe b z t : Int32} {a1 a2 a3 a4 a5 a6 a7 a8 a9 a10 a11 a12 : Nat → Int32}
theorem ld_238 (hp : post 1 ()) {t r : Int32} (e : r = t) : wL_lawOf_238 post mc ms t r kc ks := br_t e hp
theorem ld_209 (hp : post 1 ()) (K : ld_K b a1 a2 a4 a6 a10 a11 a12) : wL_lawOf_209 post mc ms x3 b t t kc ks 1 1 1 qe a1 a2 a3 a4 a5 a6 a7 a8 a9 a10 a11 a12 := by
  have hb := K.1
  refine br_t rfl (ld_isGood K (fun e r hr => br_t e ?_) (fun e => br_f e (ld_238 hp rfl)))
  exact br_c (fun f => ld_238 hp (hr.trans f)) (fun f => ld_238 hp (hr.trans (hb.resolve_left f)))
theorem ld_190 (hp : post 1 ()) (K : ld_K b a1 a2 a4 a6 a10 a11 a12) : wL_lawOf_190 post mc ms x0 x3 b t t kc ks 1 1 1 qe a1 a2 a3 a4 a5 a6 a7 a8 a9 a10 a11 a12 := by
  refine br_t rfl (ld_next K (fun e r hr => br_t e ?_) (fun e => br_f e (ld_209 hp K)))
  subst hr
  exact ld_209 hp K
theorem ld_170 (hp : post 1 ()) (K : ld_K b a1 a2 a4 a6 a10 a11 a12) : wL_lawOf_170 post mc ms x0 x3 b t t kc ks 1 1 1 qe a1 a2 a3 a4 a5 a6 a7 a8 a9 a10 a11 a12 := by
  refine br_t rfl (ld_first K (fun e r hr => br_t e ?_) (fun e => br_f e (ld_190 hp K)))
  subst hr
  exact ld_190 hp K
theorem ld_150 (hp : post 1 ()) (K : ld_K b a1 a2 a4 a6 a10 a11 a12) (hw : ∀ q : Int32 → Prop, q z → wpX_isWord q () x2) : wL_lawOf_150 post mc ms x0 x2 x3 b z t t kc ks 1 1 1 qe a1 a2 a3 a4 a5 a6 a7 a8 a9 a10 a11 a12 :=
  br_t rfl (ld_diff K hw (fun e => br_t e (ld_170 hp K)) (fun e s7 s8 s9 => br_f e (ld_170 hp K)))
theorem ld_131 (hp : post 1 ()) (K : ld_K b a1 a2 a4 a6 a10 a11 a12) (hw : ∀ q : Int32 → Prop, q z → wpX_isWord q () x2) : wL_lawOf_131 post mc ms x0 x2 x3 b z t t kc ks 1 1 1 qe a1 a2 a3 a4 a5 a6 a7 a8 a9 a10 a11 a12 := by
  refine br_t rfl (ld_kind K hw (fun e => br_t e (ld_150 hp K hw)) (fun e r hr => br_f e ?_))
  subst hr
  exact ld_150 hp K hw
theorem ld_104 (hp : post 1 ()) (K : ld_K b a1 a2 a4 a6 a10 a11 a12) (hw : ∀ q : Int32 → Prop, q z → wpX_isWord q () x2) : wL_lawOf_104 post mc ms x0 x2 x3 b z kc ks 1 1 1 qe a1 a2 a3 a4 a5 a6 a7 a8 a9 a10 a11 a12 := by
  refine ld_ask K hw (fun e => br_t e (ld_131 hp K hw)) (fun e => br_f e (br_c (fun f => ?_) (fun f => ?_)))
  · have h : wL_lawOf_131 post mc ms x0 x2 x3 b z 0 0 kc ks 1 1 1 qe a1 a2 a3 a4 a5 a6 a7 a8 a9 a10 a11 a12 := ld_131 hp K hw
    subst f
    exact h
  · have h : wL_lawOf_131 post mc ms x0 x2 x3 b z 1 1 kc ks 1 1 1 qe a1 a2 a3 a4 a5 a6 a7 a8 a9 a10 a11 a12 := ld_131 hp K hw
    have f' := K.1.resolve_left f
    subst f'
    exact h
theorem ld_85 (hp : post 1 ()) (K : ld_K b a1 a2 a4 a6 a10 a11 a12) : wL_lawOf_85 post mc ms x0 x2 x3 b kc ks 1 1 1 qe a1 a2 a3 a4 a5 a6 a7 a8 a9 a10 a11 a12 :=
  br_c (fun e => ld_104 hp K (fun q h => br_t e h)) (fun e => br_c (fun f => ld_104 hp K (fun q h => br_f e (br_t f h))) (fun f => ld_104 hp K (fun q h => br_f e (br_f f h))))
end
section
variable {post : Int32 → St0 → Prop} {mc ms kc ks : Nat} {x0 x1 x2 x3 x6 t ro en qe : Int32} {a1 a2 a3 a4 a5 a6 a7 a8 a9 a10 a11 a12 : Nat → Int32}
/-- behind good: is 'state 0 is good' -/
theorem ld_57 (hp : post 1 ()) (h0 : a1 0 = 0) (h1 : a1 1 = 0) (i0 : x6 = 0 → a2 0 = 0) (i1 : ¬ x6 = 0 → x0 = 0 → a2 0 = 1) (i2 : ¬ x6 = 0 → ¬ x0 = 0 → a2 0 = 0) : wL_lawOf_57 post mc ms x0 x2 x3 x6 t t kc ks 0 ro en qe a1 a2 a3 a4 a5 a6 a7 a8 a9 a10 a11 a12 := by
  have hb : a2 0 = 0 ∨ a2 0 = 1 := by
    by_cases e : x6 = 0
    · exact Or.inl (i0 e)
    · by_cases f : x0 = 0
      · exact Or.inr (i1 e f)
      · exact Or.inl (i2 e f)
  refine br_t rfl (ld_kinds h0 h1 hb (fun b3 b4 b5 b6 b7 b8 b9 b10 b11 b12 K => br_t rfl (br_c (fun e => ?_) (fun e => br_c (fun f => ?_) (fun f => ?_)))))
  · rw [i0 e] at K
    exact ld_85 hp K
  · rw [i1 e f] at K
    exact ld_85 hp K
  · rw [i2 e f] at K
    exact ld_85 hp K
theorem ld_nar {g : Int32} (hg : g = 0 ∨ g = 1) : vp_nar .boolean g = g := by
  rcases hg with e | e
  · rw [e]; rfl
  · rw [e]; rfl
/-- a state that is none of the seven: good answers -1 and stores nothing -/
theorem ld_37n (hp : post 1 ()) (h0 : a1 0 = 0) (h1 : a1 1 = 0) (k2 : a2 0 = 0) (hx : x0 < 0 ∨ ¬ x0 < 0 ∧ 6 < x0) : wL_lawOf_37 post mc ms x0 x2 x3 0 x6 kc ks 0 ro en qe a1 a2 a3 a4 a5 a6 a7 a8 a9 a10 a11 a12 := by
  have n0 : ¬ x0 = 0 := by
    intro e
    rw [e] at hx
    exact absurd hx (by decide)
  have F : ∀ r : Int32, r = -1 → (((0 : Int32) = 0 → wL_lawOf_57 post mc ms x0 x2 x3 x6 (-1) r kc ks 0 ro en qe a1 a2 a3 a4 a5 a6 a7 a8 a9 a10 a11 a12) ∧ (¬ (0 : Int32) = 0 → wL_lawOf_57 post mc ms x0 x2 x3 x6 0 r kc ks 0 ro en qe a1 a2 a3 a4 a5 a6 a7 a8 a9 a10 a11 a12)) := by
    intro r hr
    subst hr
    exact br_t rfl (ld_57 hp h0 h1 (fun _ => k2) (fun _ e => absurd e n0) (fun _ _ => k2))
  rcases hx with h | ⟨h, h'⟩
  · exact br_t h (F _ rfl)
  · exact br_f h (br_f (by rw [Int32.not_le]; exact h') (F _ rfl))
/-- one of the seven -/
theorem ld_37y (hp : post 1 ()) (h0 : a1 0 = 0) (h1 : a1 1 = 0) (k2 : a2 0 = 0) (hg : x6 = 0 ∨ x6 = 1) (h : ¬ x0 < 0) (h' : ¬ 6 < x0) : wL_lawOf_37 post mc ms x0 x2 x3 1 x6 kc ks 0 ro en qe a1 a2 a3 a4 a5 a6 a7 a8 a9 a10 a11 a12 := by
  have hle : x0 ≤ 6 := by
    rw [← Int32.not_lt]
    exact h'
  obtain ⟨j, hj, e⟩ := nI_of2 (n := 6) (by decide) h hle
  subst e
  refine br_f h (br_t hle ⟨vp_in_nI (by omega) (by omega), nm_r (show upd a2 (nI j).toNatClampNeg (vp_nar .boolean x6) = upd a2 j x6 from by rw [nI_clamp (by omega), ld_nar hg]) ?_⟩)
  have hj0 : nI j = 0 → j = 0 := fun z => (nI_eq (b := 0) (by omega) (by omega)).mp z
  have u1 : j = 0 → upd a2 j x6 0 = x6 := fun z => by rw [z, pk_us]
  have u2 : ¬ j = 0 → upd a2 j x6 0 = 0 := fun z => by rw [pk_un (by omega), k2]
  refine br_f (by decide) (ld_57 hp h0 h1 (fun f => ?_) (fun f z => ?_) (fun f z => ?_))
  · by_cases z : j = 0
    · rw [u1 z, f]
    · exact u2 z
  · rw [u1 (hj0 z)]
    exact hg.resolve_left f
  · exact u2 (fun y => z (by rw [y]; rfl))
theorem ld_24n (hp : post 1 ()) (h0 : a1 0 = 0) (h1 : a1 1 = 0) (k2 : a2 0 = 0) (hx : x0 < 0 ∨ ¬ x0 < 0 ∧ 6 < x0) : wL_lawOf_24 post mc ms x0 x1 x2 x3 0 kc ks 0 ro en qe a1 a2 a3 a4 a5 a6 a7 a8 a9 a10 a11 a12 :=
  br_c (fun _ => ld_37n hp h0 h1 k2 hx) (fun _ => ld_37n hp h0 h1 k2 hx)
theorem ld_24y (hp : post 1 ()) (h0 : a1 0 = 0) (h1 : a1 1 = 0) (k2 : a2 0 = 0) (h : ¬ x0 < 0) (h' : ¬ 6 < x0) : wL_lawOf_24 post mc ms x0 x1 x2 x3 1 kc ks 0 ro en qe a1 a2 a3 a4 a5 a6 a7 a8 a9 a10 a11 a12 :=
  br_c (fun _ => ld_37y hp h0 h1 k2 (Or.inl rfl) h h') (fun _ => ld_37y hp h0 h1 k2 (Or.inr rfl) h h')
end
/-! ===== the constructor ===== -/
theorem ld_i2 {s : Nat → Int32} {i : Nat} (h : 0 < i → s 0 = 0 ∧ s 1 = 0) : upd (upd s (2 * i) (nI i)) (2 * i + 1) (nI i) 0 = 0 ∧ upd (upd s (2 * i) (nI i)) (2 * i + 1) (nI i) 1 = 0 := by
  by_cases e : i = 0
  · subst e
    refine ⟨?_, ?_⟩
    · rw [pk_un (by omega), pk_us]; rfl
    · rw [pk_us]; rfl
  · rw [pk_un (by omega), pk_un (by omega), pk_un (by omega), pk_un (by omega)]
    exact h (by omega)
theorem ld_init {post : St2 → Prop} (hp : ∀ a1 : Nat → Int32, a1 0 = 0 → a1 1 = 0 → post (0, 0, 0, 0, a1, (fun _ => 0), (fun _ => 0), (fun _ => 0), (fun _ => 0), (fun _ => 0), (fun _ => 0), (fun _ => 0), (fun _ => 0), (fun _ => 0), (fun _ => 0), (fun _ => 0))) : wpX_init post 12 227 (0, 0, 0, 0) := by
  have m : ∀ i : Nat, (2 : Int32) * nI i = nI (2 * i) := fun i => pk_mul 2 i
  have L : ∃ fu : Nat, wX_init_102 post 12 227 12 227 0 0 0 0 fu 0 (fun _ => 0) (fun _ => 0) (fun _ => 0) (fun _ => 0) (fun _ => 0) (fun _ => 0) (fun _ => 0) (fun _ => 0) (fun _ => 0) (fun _ => 0) (fun _ => 0) (fun _ => 0) :=
    pk_loop (fun n i s => wX_init_102 post 12 227 12 227 0 0 0 0 n (nI i) s (fun _ => 0) (fun _ => 0) (fun _ => 0) (fun _ => 0) (fun _ => 0) (fun _ => 0) (fun _ => 0) (fun _ => 0) (fun _ => 0) (fun _ => 0) (fun _ => 0)) (fun i s => 0 < i → s 0 = 0 ∧ s 1 = 0) 7 0 (fun _ => 0) (by omega) (fun h => absurd h (by omega))
      (fun n s h => pk_le 7 7 (fun _ => hp s (h (by omega)).1 (h (by omega)).2) (fun z => absurd z (by omega)))
      (fun n i s hi h hw => pk_le 7 i (fun z => absurd z (by omega)) (fun _ => ⟨pk_in (2 * i) 14 (by omega) (m i), nm_r (show upd s (2 * nI i).toNatClampNeg (nI i) = upd s (2 * i) (nI i) from by rw [m i, nI_clamp (by omega)]) ⟨pk_in (2 * i + 1) 14 (by omega) (by rw [m i, nI_1]), nm_r (show upd (upd s (2 * i) (nI i)) (2 * nI i + 1).toNatClampNeg (nI i) = upd (upd s (2 * i) (nI i)) (2 * i + 1) (nI i) from by rw [m i, nI_1, nI_clamp (by omega)]) (nm_r (nI_1 i) (hw _ (fun _ => ld_i2 h)))⟩⟩))
  exact ⟨by omega, by omega, by omega, by omega, by omega, by omega, by omega, by omega, by omega, by omega, by omega, by omega, by omega, by omega, by omega, by omega, by omega, by omega, by omega, by omega, by omega, by omega, by omega, by omega, L⟩
theorem ld_lawOf {post : Int32 → St0 → Prop} (hp : post 1 ()) (x0 x1 x2 x3 : Int32) : wpL_lawOf post 13 243 () x0 x1 x2 x3 := by
  refine ⟨by omega, by omega, 12, 227, by omega, by omega, ld_init (fun a1 h0 h1 => ?_)⟩
  exact br_c (fun e => ld_24n hp h0 h1 rfl (Or.inl e)) (fun e => br_c (fun f => ld_24n hp h0 h1 rfl (Or.inr ⟨e, f⟩)) (fun f => ld_24y hp h0 h1 rfl e f))
theorem ld_cell {post : Int32 → Prop} {L : Nat} {xs : Nat → Int32} (hL : L ≤ 4) {x : Int32} (k : Nat) (hk : k ≤ 3) (hp : ∀ r : Int32, post r) (hx : x = nI k := by rfl) : wpL_cellAt post L xs () x := by
  subst hx
  exact pk_le L k (fun _ => hp 0) (fun z => ⟨pk_in k L z, hp _⟩)
end
section
theorem i_vc (xs : Nat → Int32) (L : Nat) (hL : L ≤ 4) : wpL_law (fun r => r = 1) L xs :=
  ld_cell hL 0 (by omega) (fun r1 => ld_cell hL 1 (by omega) (fun r2 => ld_cell hL 2 (by omega) (fun r3 => ld_cell hL 3 (by omega) (fun r4 => ⟨13, 243, by omega, by omega, ld_lawOf rfl r1 r2 r3 r4⟩))))
end
