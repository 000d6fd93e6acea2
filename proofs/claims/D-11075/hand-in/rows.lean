section
/-! the picture: two versions, the second made by SUM of column 1 onto column 0; what else the arrays hold doesn't matter -/
def sk_P (a1 a2 a3 a4 a6 : Nat → Int32) : Prop := a1 1 = 0 ∧ a2 1 = 5 ∧ a3 1 = 0 ∧ a4 1 = 1 ∧ a6 0 = 2 ∧ a6 1 = 2
/-- what column 0 becomes on the way from version s to version g -/
def sk_tr (s g x y : Int32) : Int32 := if s = g then x else if s = 1 then x - y else x + y
theorem sk_c0 : (0 : Int32).toNatClampNeg = 0 := by decide
theorem sk_c1 : (1 : Int32).toNatClampNeg = 1 := by decide
theorem sk_in {x : Int32} {n : Nat} (h : 0 ≤ x.toInt ∧ x.toInt < n) : vp_in x n := vp_in_iff.mpr h
theorem sk_ine {x y : Int32} {n : Nat} (e : x = y) (h : 0 ≤ y.toInt ∧ y.toInt < n) : vp_in x n := by
  rw [e]
  exact sk_in h
theorem sk_vin {v : Int32} (hv : v = 0 ∨ v = 1) : vp_in v 8 := by
  rcases hv with rfl | rfl
  · exact sk_in (by decide)
  · exact sk_in (by decide)
theorem sk_i5 (i : Nat) : (5 * 0 : Int32) + nI i = nI i := by
  rw [show (5 * 0 : Int32) = nI 0 from rfl, nI_add, Nat.zero_add]
theorem sk_i8 (i : Nat) : (8 * 0 : Int32) + nI i = nI i := by
  rw [show (8 * 0 : Int32) = nI 0 from rfl, nI_add, Nat.zero_add]
theorem sk_fill {f s : Nat → Int32} {i k : Nat} {x : Int32} (hk : k = i) (h : ∀ j, j < i → s j = f j) (hx : x = f i) : ∀ j, j < i + 1 → upd s k x j = f j := by
  intro j hj
  rw [hk]
  by_cases e : j = i
  · rw [e, pk_us, hx]
  · rw [pk_un e]
    exact h j (by omega)
section
variable {hm rc w : Int32} {a1 a2 a3 a4 a5 a6 a7 a8 a9 a10 a11 a12 a13 a14 : Nat → Int32}
theorem sk_g1 (h : sk_P a1 a2 a3 a4 a6) : a1 (1 : Int32).toNatClampNeg = 0 := by
  rw [sk_c1]
  exact h.1
theorem sk_g2 (h : sk_P a1 a2 a3 a4 a6) : a2 (1 : Int32).toNatClampNeg = 5 := by
  rw [sk_c1]
  exact h.2.1
theorem sk_g3 (h : sk_P a1 a2 a3 a4 a6) : a3 (1 : Int32).toNatClampNeg = 0 := by
  rw [sk_c1]
  exact h.2.2.1
theorem sk_g4 (h : sk_P a1 a2 a3 a4 a6) : a4 (1 : Int32).toNatClampNeg = 1 := by
  rw [sk_c1]
  exact h.2.2.2.1
theorem sk_g6 (h : sk_P a1 a2 a3 a4 a6) {v : Int32} (hv : v = 0 ∨ v = 1) : a6 v.toNatClampNeg = 2 := by
  rcases hv with rfl | rfl
  · rw [sk_c0]
    exact h.2.2.2.2.1
  · rw [sk_c1]
    exact h.2.2.2.2.2
/-! the small methods -/
theorem sk_ver {post : Int32 → Prop} {v : Int32} (hv : v = 0 ∨ v = 1) (h : post 1) : wpX_isVersion post (2, hm, rc, w, a1, a2, a3, a4, a5, a6, a7, a8, a9, a10, a11, a12, a13, a14) v := by
  rcases hv with rfl | rfl
  · exact br_f (by decide) (br_f (by decide) h)
  · exact br_f (by decide) (br_f (by decide) h)
theorem sk_col {post : Int32 → Prop} {v c : Int32} (hP : sk_P a1 a2 a3 a4 a6) (hv : v = 0 ∨ v = 1) (hc : c = 0 ∨ c = 1) (h : post 1) : wpX_isColumn post (2, hm, rc, w, a1, a2, a3, a4, a5, a6, a7, a8, a9, a10, a11, a12, a13, a14) v c := by
  refine br_f ?_ ⟨sk_vin hv, br_f ?_ h⟩
  · rcases hc with rfl | rfl
    · decide
    · decide
  · rw [sk_g6 hP hv]
    rcases hc with rfl | rfl
    · decide
    · decide
theorem sk_find0 {post : Int32 → Prop} {k : Int32} (h : post (-1)) : wpX_find post (2, hm, 0, w, a1, a2, a3, a4, a5, a6, a7, a8, a9, a10, a11, a12, a13, a14) k := ⟨1, br_t (by decide) h⟩
theorem sk_find {post : Int32 → Prop} (h7 : a7 0 = 7) (h : post 0) : wpX_find post (2, hm, 1, w, a1, a2, a3, a4, a5, a6, a7, a8, a9, a10, a11, a12, a13, a14) 7 :=
  ⟨1, br_f (by decide) ⟨sk_in (by decide), br_t (by rw [sk_c0]; exact h7) h⟩⟩
theorem sk_cfe {post : Int32 → Prop} {v : Int32} (h : post 1) : wpX_comesFrom post (2, hm, rc, w, a1, a2, a3, a4, a5, a6, a7, a8, a9, a10, a11, a12, a13, a14) v v := ⟨1, br_t (Int32.le_refl v) (br_t rfl h)⟩
theorem sk_cf01 {post : Int32 → Prop} (h : post 0) : wpX_comesFrom post (2, hm, rc, w, a1, a2, a3, a4, a5, a6, a7, a8, a9, a10, a11, a12, a13, a14) 0 1 := ⟨1, br_t (by decide) (br_f (by decide) h)⟩
theorem sk_cf10 {post : Int32 → Prop} (hP : sk_P a1 a2 a3 a4 a6) (h : post 1) : wpX_comesFrom post (2, hm, rc, w, a1, a2, a3, a4, a5, a6, a7, a8, a9, a10, a11, a12, a13, a14) 1 0 :=
  ⟨2, br_f (by decide) ⟨sk_in (by decide), nm_r (sk_g1 hP) (br_t (by decide) (br_t rfl h))⟩⟩
/-! what is shown: always, and of the state only the climbing copy changes -/
theorem sk_sh35 {post : Int32 → St2 → Prop} {r v x3 : Int32} (hP : sk_P a1 a2 a3 a4 a6) (hv : v = 0 ∨ v = 1) (H : ∀ b, post 1 (2, hm, rc, w, a1, a2, a3, a4, a5, a6, a7, a8, a9, a10, a11, a12, a13, b)) : ∃ f, wX_isShownAt_35 post r f x3 v 2 hm rc w a1 a2 a3 a4 a5 a6 a7 a8 a9 a10 a11 a12 a13 a14 := by
  rcases hv with rfl | rfl
  · exact ⟨1, br_t (by decide) (H _)⟩
  · refine ⟨2, br_f (by decide) ⟨sk_in (by decide), nm_r (sk_g3 hP) ⟨sk_in (by decide), nm_r (sk_g2 hP) (br_f (by decide) ?_)⟩⟩⟩
    refine br_f (by decide) (br_f (by decide) ⟨sk_in (by decide), ?_⟩)
    refine br_f (by decide) (br_t rfl ⟨sk_in (by decide), sk_ine (sk_g4 hP) (by decide), sk_in (by decide), nm_e ⟨sk_in (by decide), nm_r (sk_g1 hP) ?_⟩⟩)
    exact br_t (by decide) (H _)
theorem sk_shown {post : Int32 → St2 → Prop} {r v : Int32} (hP : sk_P a1 a2 a3 a4 a6) (hv : v = 0 ∨ v = 1) (H : ∀ b, post 1 (2, hm, rc, w, a1, a2, a3, a4, a5, a6, a7, a8, a9, a10, a11, a12, a13, b)) : wpX_isShownAt post (2, hm, rc, w, a1, a2, a3, a4, a5, a6, a7, a8, a9, a10, a11, a12, a13, a14) r v :=
  pk_loop (fun n i s => wX_isShownAt_2 post r v 2 hm rc w n (nI i) a1 a2 a3 a4 a5 a6 a7 a8 a9 a10 a11 a12 a13 s) (fun _ _ => True) 5 0 a14 (by omega) trivial
    (fun n s _ => pk_le 5 5 (fun _ => ⟨sk_vin hv, nm_e (sk_sh35 hP hv H)⟩) (fun z => absurd z (by omega)))
    (fun n i s hi _ hw => pk_le 5 i (fun z => absurd z (by omega)) (fun _ => ⟨pk_in i 5 hi, pk_in i 5 hi, nm_e (nm_r (nI_1 i) (hw _ trivial))⟩))
/-! the ways -/
theorem sk_climb {post : St2 → Prop} {r m : Int32} (hP : sk_P a1 a2 a3 a4 a6) (H : post (2, hm, rc, w, a1, a2, a3, a4, a5, a6, a7, a8, a9, a10, upd a11 0 (a11 0 - a11 1), a12, a13, a14)) : wpX_climb post (2, hm, rc, w, a1, a2, a3, a4, a5, a6, a7, a8, a9, a10, a11, a12, a13, a14) r 1 m := by
  refine ⟨sk_in (by decide), nm_r (sk_g2 hP) ⟨sk_in (by decide), nm_r (sk_g3 hP) (br_f (by decide) (br_f (by decide) (br_f (by decide) (br_f (by decide) (br_t rfl ⟨sk_in (by decide), sk_in (by decide), sk_ine (sk_g4 hP) (by decide), sk_in (by decide), nm_r ?_ H⟩)))))⟩⟩
  rw [sk_g4 hP, sk_c0, sk_c1]
theorem sk_descend {post : St2 → Prop} {r p m : Int32} (hP : sk_P a1 a2 a3 a4 a6) (hp : p = 1) (H : post (2, hm, rc, w, a1, a2, a3, a4, a5, a6, a7, a8, a9, a10, upd a11 0 (a11 0 + a11 1), a12, a13, a14)) : wpX_descend post (2, hm, rc, w, a1, a2, a3, a4, a5, a6, a7, a8, a9, a10, a11, a12, a13, a14) r p m := by
  subst hp
  refine ⟨sk_in (by decide), nm_r (sk_g2 hP) ⟨sk_in (by decide), nm_r (sk_g3 hP) (br_f (by decide) (br_f (by decide) (br_f (by decide) (br_f (by decide) (br_t rfl ⟨sk_in (by decide), sk_in (by decide), sk_ine (sk_g4 hP) (by decide), sk_in (by decide), nm_r ?_ H⟩)))))⟩⟩
  rw [sk_g4 hP, sk_c0, sk_c1]
theorem sk_same {post : St2 → Prop} {r v m : Int32} (H : post (2, hm, rc, w, a1, a2, a3, a4, a5, a6, a7, a8, a9, a10, a11, a12, a13, a14)) : ∃ f, wX_carry_40 post r m v 2 hm rc w f 0 v a1 a2 a3 a4 a5 a6 a7 a8 a9 a10 a11 a12 a13 a14 :=
  ⟨1, br_t rfl (nm_r (e' := -1) (by decide) ⟨1, br_t (by decide) H⟩)⟩
theorem sk_down {post : St2 → Prop} {r m : Int32} (hP : sk_P a1 a2 a3 a4 a6) (H : ∀ d, post (2, hm, rc, w, a1, a2, a3, a4, a5, a6, a7, a8, a9, a10, upd a11 0 (a11 0 + a11 1), a12, d, a14)) : ∃ f, wX_carry_40 post r m 0 2 hm rc w f 0 1 a1 a2 a3 a4 a5 a6 a7 a8 a9 a10 a11 a12 a13 a14 := by
  refine ⟨2, br_f (by decide) ⟨sk_in (by decide), nm_r (e' := upd a13 0 1) ?_ (nm_r (e' := 1) (by decide) ⟨sk_in (by decide), nm_r (sk_g1 hP) (br_t rfl (nm_r (e' := 0) (by decide) ⟨2, br_f (by decide) ⟨sk_in (by decide), ?_⟩⟩))⟩)⟩⟩
  · rw [sk_c0]
    rfl
  · refine sk_descend hP ?_ ?_
    · rw [sk_c0, pk_us]
    · exact nm_r (e' := -1) (by decide) (br_t (by decide) (H _))
theorem sk_carry {post : St2 → Prop} {r s g m : Int32} (hP : sk_P a1 a2 a3 a4 a6) (hs : s = 0 ∨ s = 1) (hg : g = 0 ∨ g = 1) (H : ∀ b d, b 0 = sk_tr s g (a11 0) (a11 1) → b 1 = a11 1 → post (2, hm, rc, w, a1, a2, a3, a4, a5, a6, a7, a8, a9, a10, b, a12, d, a14)) : wpX_carry post (2, hm, rc, w, a1, a2, a3, a4, a5, a6, a7, a8, a9, a10, a11, a12, a13, a14) r s g m := by
  unfold wpX_carry
  dsimp only
  rcases hs with rfl | rfl
  · rcases hg with rfl | rfl
    · refine ⟨1, ?_⟩
      unfold wX_carry_3
      exact sk_cfe (br_f (by decide) (sk_same (H _ _ rfl rfl)))
    · refine ⟨1, ?_⟩
      unfold wX_carry_3
      exact sk_cf10 hP (br_f (by decide) (sk_down hP (fun d => H _ _ rfl rfl)))
  · rcases hg with rfl | rfl
    · refine ⟨2, ?_⟩
      unfold wX_carry_3
      refine sk_cf01 (br_t rfl (sk_climb hP ?_))
      refine ⟨sk_in (by decide), nm_r (sk_g1 hP) ?_⟩
      unfold wX_carry_3
      exact sk_cfe (br_f (by decide) (sk_same (H _ _ rfl rfl)))
    · refine ⟨1, ?_⟩
      unfold wX_carry_3
      exact sk_cfe (br_f (by decide) (sk_same (H _ _ rfl rfl)))
/-! load, store, look -/
theorem sk_load {post : St2 → Prop} (hh : hm = 0 ∨ hm = 1) (H : ∀ x b, b 0 = a8 0 → b 1 = a8 1 → post (2, hm, rc, x, a1, a2, a3, a4, a5, a6, a7, a8, a9, a10, b, a12, a13, a14)) : wpX_load post (2, hm, rc, w, a1, a2, a3, a4, a5, a6, a7, a8, a9, a10, a11, a12, a13, a14) 0 := by
  refine ⟨sk_vin hh, nm_e ?_⟩
  exact pk_loop (fun n i s => wX_load_15 post 0 2 hm rc (a6 hm.toNatClampNeg) n (nI i) a1 a2 a3 a4 a5 a6 a7 a8 a9 a10 s a12 a13 a14) (fun i s => ∀ j, j < i → s j = a8 j) 5 0 a11 (by omega) (fun j hj => absurd hj (by omega))
    (fun n s h => pk_le 5 5 (fun _ => H _ s (h 0 (by omega)) (h 1 (by omega))) (fun z => absurd z (by omega)))
    (fun n i s hi h hw => pk_le 5 i (fun z => absurd z (by omega)) (fun _ => ⟨pk_in i 60 (by omega) (sk_i5 i), pk_in i 5 hi, nm_e (nm_r (nI_1 i) (hw _ (sk_fill (nI_clamp (by omega)) h (by rw [sk_i5, nI_clamp (by omega)]))))⟩))
theorem sk_store {post : St2 → Prop} (H : ∀ b, b 0 = a11 0 → b 1 = a11 1 → post (2, hm, rc, w, a1, a2, a3, a4, a5, a6, a7, b, a9, a10, a11, a12, a13, a14)) : wpX_store post (2, hm, rc, w, a1, a2, a3, a4, a5, a6, a7, a8, a9, a10, a11, a12, a13, a14) 0 :=
  pk_loop (fun n i s => wX_store_2 post 0 2 hm rc w n (nI i) a1 a2 a3 a4 a5 a6 a7 s a9 a10 a11 a12 a13 a14) (fun i s => ∀ j, j < i → s j = a11 j) 5 0 a8 (by omega) (fun j hj => absurd hj (by omega))
    (fun n s h => pk_le 5 5 (fun _ => H s (h 0 (by omega)) (h 1 (by omega))) (fun z => absurd z (by omega)))
    (fun n i s hi h hw => pk_le 5 i (fun z => absurd z (by omega)) (fun _ => ⟨pk_in i 5 hi, pk_in i 60 (by omega) (sk_i5 i), nm_e (nm_r (nI_1 i) (hw _ (sk_fill (by rw [sk_i5, nI_clamp (by omega)]) h (by rw [nI_clamp (by omega)]))))⟩))
theorem sk_look {post : Int32 → St2 → Prop} {v : Int32} (hP : sk_P a1 a2 a3 a4 a6) (hh : hm = 0 ∨ hm = 1) (hv : v = 0 ∨ v = 1) (H : ∀ x b d e, b 0 = sk_tr hm v (a8 0) (a8 1) → b 1 = a8 1 → post 1 (2, hm, rc, x, a1, a2, a3, a4, a5, a6, a7, a8, a9, a10, b, a12, d, e)) : wpX_look post (2, hm, rc, w, a1, a2, a3, a4, a5, a6, a7, a8, a9, a10, a11, a12, a13, a14) 0 v := by
  unfold wpX_look
  refine sk_load hh (fun x b h0 h1 => ?_)
  refine sk_carry hP hh hv (fun c d g0 g1 => ?_)
  refine sk_shown hP hv (fun e => ⟨rfl, H x c d e ?_ ?_⟩)
  · rw [g0, h0, h1]
  · rw [g1, h1]
end
end
section
section
variable {hm rc w : Int32} {a1 a2 a3 a4 a5 a6 a7 a8 a9 a10 a11 a12 a13 a14 : Nat → Int32}
/-! the methods that the law calls, the only row at place 0 with key 7 -/
theorem sk_value {post : Int32 → St2 → Prop} {v : Int32} (hP : sk_P a1 a2 a3 a4 a6) (hh : hm = 0 ∨ hm = 1) (h7 : a7 0 = 7) (hv : v = 0 ∨ v = 1) (H : ∀ x b d e, post (sk_tr hm v (a8 0) (a8 1)) (2, hm, 1, x, a1, a2, a3, a4, a5, a6, a7, a8, a9, a10, b, a12, d, e)) : wpX_value post (2, hm, 1, w, a1, a2, a3, a4, a5, a6, a7, a8, a9, a10, a11, a12, a13, a14) v 7 0 := by
  unfold wpX_value
  refine sk_find h7 ?_
  refine sk_ver hv (br_f (by decide) ?_)
  refine sk_col hP hv (Or.inl rfl) (br_f (by decide) (br_f (by decide) ?_))
  refine sk_look hP hh hv (fun x b d e h0 h1 => ?_)
  refine br_f (by decide) ⟨sk_in (by decide), ?_⟩
  rw [sk_c0, h0]
  exact H x b d e
theorem sk_home {post : Int32 → St2 → Prop} {k : Int32} (hP : sk_P a1 a2 a3 a4 a6) (hh : hm = 0 ∨ hm = 1) (hk : k = 0 ∨ k = 1) (H : ∀ x a b d, a 0 = sk_tr hm k (a8 0) (a8 1) → a 1 = a8 1 → post 1 (2, k, 1, x, a1, a2, a3, a4, a5, a6, a7, a, a9, a10, b, a12, d, a14)) : wpX_home post (2, hm, 1, w, a1, a2, a3, a4, a5, a6, a7, a8, a9, a10, a11, a12, a13, a14) k := by
  unfold wpX_home
  refine sk_ver hk (br_f (by decide) ?_)
  unfold wpX_moveHome
  refine ⟨2, br_f (by decide) ?_⟩
  refine sk_load hh (fun x b h0 h1 => ?_)
  refine sk_carry hP hh hk (fun c d g0 g1 => ?_)
  refine sk_store (fun a f0 f1 => ?_)
  refine nm_r (e' := 1) (by decide) (br_t (by decide) (H x a c d ?_ ?_))
  · rw [f0, g0, h0, h1]
  · rw [f1, g1, h1]
theorem sk_update {post : Int32 → St2 → Prop} {k c : Int32} (hP : sk_P a1 a2 a3 a4 a6) (hh : hm = 0 ∨ hm = 1) (h7 : a7 0 = 7) (hk : k = 0 ∨ k = 1)
    (H : ∀ x a b d e, a 0 = sk_tr 1 hm (if k = 0 then c else sk_tr hm 1 (a8 0) (a8 1)) (if k = 0 then a8 1 else c) → a 1 = (if k = 0 then a8 1 else c) → post 1 (2, hm, 1, x, a1, a2, a3, a4, a5, a6, a7, a, a9, a10, b, a12, d, e)) : wpX_update post (2, hm, 1, w, a1, a2, a3, a4, a5, a6, a7, a8, a9, a10, a11, a12, a13, a14) 1 7 k c := by
  unfold wpX_update
  refine sk_ver (Or.inr rfl) (br_f (by decide) (br_f (by decide) (br_f (by decide) ?_)))
  refine sk_col hP (Or.inr rfl) hk (br_f (by decide) ?_)
  refine sk_find h7 (br_f (by decide) ?_)
  refine sk_look hP hh (Or.inr rfl) (fun x b d e h0 h1 => ?_)
  refine br_f (by decide) ⟨?_, nm_e ?_⟩
  · rcases hk with rfl | rfl
    · exact sk_in (by decide)
    · exact sk_in (by decide)
  refine sk_shown hP (Or.inr rfl) (fun e' => br_f (by decide) ?_)
  refine sk_carry hP (Or.inr rfl) hh (fun c' d' g0 g1 => ?_)
  refine sk_store (fun a f0 f1 => H x a c' d' e' ?_ ?_)
  · rw [f0, g0]
    rcases hk with rfl | rfl
    · rw [sk_c0, pk_us, pk_un (by decide), h1]
      rfl
    · rw [sk_c1, pk_us, pk_un (by decide), h0]
      rfl
  · rw [f1, g1]
    rcases hk with rfl | rfl
    · rw [sk_c0, pk_un (by decide), h1]
      rfl
    · rw [sk_c1, pk_us]
      rfl
theorem sk_sum {post : Int32 → St2 → Prop} {v : Int32} (hP : sk_P a1 a2 a3 a4 a6) (hh : hm = 0 ∨ hm = 1) (hv : v = 0 ∨ v = 1) (H : ∀ x b d e, post (a8 1) (2, hm, 1, x, a1, a2, a3, a4, a5, a6, a7, a8, a9, a10, b, a12, d, e)) : wpX_sum post (2, hm, 1, w, a1, a2, a3, a4, a5, a6, a7, a8, a9, a10, a11, a12, a13, a14) v 1 := by
  unfold wpX_sum
  refine sk_ver hv (br_f (by decide) ?_)
  refine sk_col hP hv (Or.inr rfl) (br_f (by decide) ?_)
  refine ⟨2, br_f (by decide) ?_⟩
  refine sk_look hP hh hv (fun x b d e h0 h1 => ?_)
  refine br_f (by decide) ⟨sk_in (by decide), nm_r (e' := a8 1) ?_ (nm_r (e' := 1) (by decide) (br_t (by decide) (H x b d e)))⟩
  rw [sk_c1, h1, Int32.zero_add]
/-! the first calls -/
theorem sk_draft0 {post : Int32 → St2 → Prop} {y : Int32} (H : post 1 (2, hm, rc, w, a1, a2, a3, a4, a5, a6, a7, a8, a9, upd a10 0 y, a11, a12, a13, a14)) : wpX_draft post (2, hm, rc, w, a1, a2, a3, a4, a5, a6, a7, a8, a9, a10, a11, a12, a13, a14) 0 y :=
  br_f (by decide) (br_t (by decide) ⟨sk_in (by decide), nm_r (by rw [sk_c0]) H⟩)
theorem sk_draft1 {post : Int32 → St2 → Prop} {y : Int32} (H : post 1 (2, hm, rc, w, a1, a2, a3, a4, a5, a6, a7, a8, a9, upd a10 1 y, a11, a12, a13, a14)) : wpX_draft post (2, hm, rc, w, a1, a2, a3, a4, a5, a6, a7, a8, a9, a10, a11, a12, a13, a14) 1 y :=
  br_f (by decide) (br_t (by decide) ⟨sk_in (by decide), nm_r (by rw [sk_c1]) H⟩)
theorem sk_edit {post : Int32 → St2 → Prop} (h6 : a6 0 = 2) (H : ∀ b1 b2 b3 b4 b5 b6, sk_P b1 b2 b3 b4 b6 → post 1 (2, 0, 0, w, b1, b2, b3, b4, b5, b6, a7, a8, a9, a10, a11, a12, a13, a14)) : wpX_edit post (1, 0, 0, w, a1, a2, a3, a4, a5, a6, a7, a8, a9, a10, a11, a12, a13, a14) 0 69 0 := by
  have g6 : a6 (0 : Int32).toNatClampNeg = 2 := by
    rw [sk_c0]
    exact h6
  unfold wpX_edit
  refine br_f (by decide) (br_f (by decide) (br_f (by decide) (br_f (by decide) (br_t (by decide) (br_t (by decide) ?_)))))
  refine nm_r (e' := 5) (by decide) (nm_r (e' := 0) (by decide) (nm_r (e' := 1) (by decide) ?_))
  refine br_f (by decide) (br_f (by decide) ?_)
  refine br_f (by decide) ⟨sk_in (by decide), br_f (by rw [g6]; decide) (br_f (by decide) ?_)⟩
  refine br_f (by decide) (br_t rfl ?_)
  refine br_f (by decide) ⟨sk_in (by decide), br_f (by rw [g6]; decide) (br_f (by decide) ?_)⟩
  refine br_t rfl (br_f (by decide) ?_)
  refine ⟨sk_in (by decide), br_f (by decide) (br_f (by decide) ?_)⟩
  refine nm_r (e' := 2) (by rw [g6]; decide) (br_f (by decide) (br_t (by decide) (nm_r (e' := 2) (by decide) ?_)))
  refine ⟨sk_in (by decide), nm_e ⟨sk_in (by decide), nm_e ⟨sk_in (by decide), nm_e ⟨sk_in (by decide), nm_e ⟨sk_in (by decide), nm_e ⟨sk_in (by decide), nm_e ⟨1, br_t (by decide) (H _ _ _ _ _ _ ?_)⟩⟩⟩⟩⟩⟩⟩
  rw [sk_c1]
  exact ⟨rfl, rfl, rfl, rfl, h6, rfl⟩
theorem sk_ins110 {post : Int32 → St2 → Prop} (hP : sk_P a1 a2 a3 a4 a6) (H : ∀ x k a b d e, k 0 = 7 → a 0 = a10 0 - a10 1 → a 1 = a10 1 → post 1 (2, 0, 1, x, a1, a2, a3, a4, a5, a6, k, a, a9, a10, b, a12, d, e)) : ∃ f, wX_insert_110 post 1 7 0 2 0 0 w f 0 a1 a2 a3 a4 a5 a6 a7 a8 a9 a10 a11 a12 a13 a14 := by
  refine pk_loop (fun n i s => wX_insert_110 post 1 7 0 2 0 0 w n (nI i) a1 a2 a3 a4 a5 a6 a7 a8 a9 a10 s a12 a13 a14) (fun i s => ∀ j, j < i → s j = a10 j) 5 0 a11 (by omega) (fun j hj => absurd hj (by omega)) (fun n s h => ?_)
    (fun n i s hi h hw => pk_le 5 i (fun z => absurd z (by omega)) (fun _ => ⟨pk_in i 5 hi, pk_in i 5 hi, nm_e (nm_r (nI_1 i) (hw _ (sk_fill (nI_clamp (by omega)) h (by rw [nI_clamp (by omega)]))))⟩))
  refine pk_le 5 5 (fun _ => ?_) (fun z => absurd z (by omega))
  refine sk_shown hP (Or.inr rfl) (fun e => br_f (by decide) ?_)
  refine sk_carry hP (Or.inr rfl) (Or.inl rfl) (fun c d g0 g1 => ?_)
  refine sk_store (fun a f0 f1 => ?_)
  refine ⟨sk_in (by decide), nm_e (nm_r (e' := 1) (by decide) ?_)⟩
  refine nm_r (e' := 0) (by decide) ⟨1, br_t (by decide) (H w _ a c d e ?_ ?_ ?_)⟩
  · rw [sk_c0, pk_us]
    decide
  · rw [f0, g0, h 0 (by omega), h 1 (by omega)]
    rfl
  · rw [f1, g1, h 1 (by omega)]
theorem sk_insert {post : Int32 → St2 → Prop} (hP : sk_P a1 a2 a3 a4 a6) (H : ∀ x k a p b l d e, k 0 = 7 → a 0 = a10 0 - a10 1 → a 1 = a10 1 → post 1 (2, 0, 1, x, a1, a2, a3, a4, a5, a6, k, a, p, a10, b, l, d, e)) : wpX_insert post (2, 0, 0, w, a1, a2, a3, a4, a5, a6, a7, a8, a9, a10, a11, a12, a13, a14) 1 7 := by
  unfold wpX_insert
  refine sk_ver (Or.inr rfl) (br_f (by decide) (br_f (by decide) (br_t (by decide) ?_)))
  refine sk_find0 (br_t (by decide) (br_t (by decide) ?_))
  refine pk_loop (fun n i s => wX_insert_51 post 1 7 0 2 0 0 w n (nI i) a1 a2 a3 a4 a5 a6 a7 a8 s.1 a10 a11 s.2 a13 a14) (fun _ _ => True) 8 0 (a9, a12) (by omega) trivial (fun n s _ => ?_)
    (fun n i s hi _ hw => pk_le 8 i (fun z => absurd z (by omega)) (fun _ => ⟨pk_in i 8 hi, pk_in i 96 (by omega) (sk_i8 i), nm_e ⟨pk_in i 8 hi, pk_in i 8 hi, nm_e (nm_r (nI_1 i) (hw (_, _) trivial))⟩⟩))
  refine pk_le 8 8 (fun _ => ⟨sk_in (by decide), nm_e ?_⟩) (fun z => absurd z (by omega))
  exact sk_ins110 hP (fun x k a b d e h7 h0 h1 => H x k a _ b _ d e h7 h0 h1)
end
end
section
/-! the law -/
theorem sk_k (x : Int32) : x &&& 1 = 0 ∨ x &&& 1 = 1 := by
  have h : x &&& 1 = nI (x.toBitVec.toNat % 2 ^ 1) := pk_and x 1 (by decide)
  rcases Nat.mod_two_eq_zero_or_one x.toBitVec.toNat with z | z
  · left
    rw [h, show x.toBitVec.toNat % 2 ^ 1 = 0 from z]
    rfl
  · right
    rw [h, show x.toBitVec.toNat % 2 ^ 1 = 1 from z]
    rfl
theorem sk_lawOf (a b c q : Int32) : wpL_lawOf (fun r _ => r = 1) 142 2272 () a b c q := by
  refine fun k hk => ?_
  have hk' : k = 0 ∨ k = 1 := by
    rw [hk]
    exact sk_k q
  refine ⟨by decide, by decide, 14, 247, by decide, by decide, ?_⟩
  refine ⟨by decide, by decide, by decide, by decide, by decide, by decide, by decide, by decide, by decide, by decide, by decide, by decide, by decide, by decide, by decide, by decide, by decide, by decide, by decide, by decide, by decide, by decide, by decide, by decide, by decide, by decide, by decide, by decide, nm_e ?_⟩
  refine sk_edit pk_us (fun b1 b2 b3 b4 b5 b6 hP => br_t rfl ?_)
  refine sk_draft0 (br_f (by decide) ?_)
  refine sk_draft1 (br_f (by decide) ?_)
  refine sk_insert hP (fun x7 k7 v7 p7 b7 l7 d7 e7 h7 h0 h1 => br_t rfl ?_)
  rw [pk_us, pk_un (by decide), pk_us] at h0
  rw [pk_us] at h1
  refine sk_value hP (Or.inl rfl) h7 (Or.inl rfl) (fun x8 b8 d8 e8 => br_t h0 ?_)
  refine sk_home hP (Or.inl rfl) hk' (fun x9 v9 b9 d9 i0 i1 => br_f (by decide) ?_)
  refine sk_update hP hk' h7 hk' (fun x10 v10 b10 d10 e10 j0 j1 => br_t rfl ?_)
  refine sk_value hP hk' h7 (Or.inl rfl) (fun x11 b11 d11 e11 => ?_)
  rw [h0, h1] at i0
  rw [h1] at i1
  rw [i0, i1] at j0
  rw [i1] at j1
  have e0 : k = 0 → v10 0 = c - b := fun z => by
    subst z
    exact j0
  have e1 : k = 0 → v10 1 = b := fun z => by
    subst z
    exact j1
  have f0 : k = 1 → v10 0 = a := fun z => by
    subst z
    exact j0.trans (Int32.sub_add_cancel a b)
  have f1 : k = 1 → v10 1 = c := fun z => by
    subst z
    exact j1
  have last0 : k = 0 → sk_tr k 1 (v10 0) (v10 1) = c := fun z => by
    rw [e0 z, e1 z, z]
    exact Int32.sub_add_cancel c b
  have last1 : k = 1 → sk_tr k 1 (v10 0) (v10 1) = a := fun z => by
    rw [f0 z, f1 z, z]
    rfl
  rcases hk' with z | z
  · refine br_t z (br_t ?_ ?_)
    · rw [e0 z, e1 z, z]
      rfl
    · refine sk_sum hP (Or.inl z) (Or.inl rfl) (fun x12 b12 d12 e12 => br_t z (br_t (e1 z) ?_))
      refine sk_value hP (Or.inl z) h7 (Or.inr rfl) (fun x13 b13 d13 e13 => br_t z (br_t (last0 z) rfl))
  · have nz : ¬ k = 0 := by
      rw [z]
      decide
    refine br_f nz (br_t ?_ ?_)
    · rw [f0 z, f1 z, z]
      rfl
    · refine sk_sum hP (Or.inr z) (Or.inl rfl) (fun x12 b12 d12 e12 => br_f nz (br_t (f1 z) ?_))
      refine sk_value hP (Or.inr z) h7 (Or.inr rfl) (fun x13 b13 d13 e13 => br_f nz (br_t (last1 z) rfl))
theorem sk_cell {post : Int32 → Prop} {L : Nat} {xs : Nat → Int32} (i : Nat) {p : Int32} (hL : L ≤ 4) (hi : i < 4) (hp : p = nI i) (H : ∀ x, post x) : wpL_cellAt post L xs () p :=
  pk_le L i (fun _ => H 0) (fun h => ⟨pk_in i L h hp, H _⟩) rfl hp
theorem i_vc (xs : Nat → Int32) (L : Nat) (hL : L ≤ 4) : wpL_law (fun r => r = 1) L xs := by
  unfold wpL_law
  refine sk_cell 0 hL (by omega) rfl (fun a => ?_)
  refine sk_cell 1 hL (by omega) rfl (fun b => ?_)
  refine sk_cell 2 hL (by omega) rfl (fun c => ?_)
  refine sk_cell 3 hL (by omega) rfl (fun q => ?_)
  exact ⟨142, 2272, by decide, by decide, sk_lawOf a b c q⟩
end
