section
/-- what hold() leaves in the fault's cell, for kinds below 10 -/
def mt_hold (k b : Int32) : Int32 := if k = 0 then k else if k = 1 then k else b
/-- what a WRITE of x leaves in the fault's own cell -/
def mt_own (k b x : Int32) : Int32 := mt_hold k (if k = 2 ∧ x = 1 then b else if k = 3 ∧ x = 0 then b else x)
/-- the flag behind a READ that must see x where the cell holds b -/
def mt_rd (f b x : Int32) : Int32 := if b = x then f ||| 0 else f ||| 1
/-- the cell behind the first march (WRITE x), filled with b -/
def mt_b1 (k x b : Int32) : Int32 := mt_own k (mt_hold k b) x
/-- the cell behind the second march's WRITE of 1 - x -/
def mt_b2 (k x b : Int32) : Int32 := mt_own k (mt_b1 k x b) (1 - x)
/-- whether some READ of the run fails -/
def mt_run (k x b : Int32) : Int32 := mt_rd (mt_rd 0 (mt_b1 k x b) (2 + x - 2)) (mt_b2 k x b) (3 - x - 2)
/-- the test at hand: two marches; WRITE x; then READ x, WRITE 1 - x, READ 1 - x -/
def mt_T (x : Int32) (a2 a3 : Nat → Int32) : Prop := a2 0 = 1 ∧ a2 1 = 3 ∧ a3 0 = x ∧ a3 4 = 2 + x ∧ a3 5 = 1 - x ∧ a3 6 = 3 - x
theorem mt_rd01 {f b x : Int32} (h : f = 0 ∨ f = 1) : mt_rd f b x = 0 ∨ mt_rd f b x = 1 := by
  unfold mt_rd
  by_cases e : b = x
  · rw [if_pos e]
    rcases h with rfl | rfl
    · exact Or.inl (by decide)
    · exact Or.inr (by decide)
  · rw [if_neg e]
    rcases h with rfl | rfl
    · exact Or.inr (by decide)
    · exact Or.inr (by decide)
theorem mt_nb {f : Int32} (h : f = 0 ∨ f = 1) : narrow .boolean (.int f) = .int f := by
  rcases h with rfl | rfl <;> rfl
theorem mt_fb {f : Int32} (h : f = 0 ∨ f = 1) : fits .boolean (.int f) = true := by
  rcases h with rfl | rfl <;> rfl
theorem mt_h {post : St2 → Prop} {c w k b o f : Int32} {a1 a2 a3 : Nat → Int32} (hk : k < 10)
    (H : post (c, w, k, mt_hold k b, o, f, a1, a2, a3)) : wpX_hold post (c, w, k, b, o, f, a1, a2, a3) := by
  unfold mt_hold at H
  unfold wpX_hold
  dsimp only
  by_cases h0 : k = 0
  · rw [if_pos h0] at H
    exact br_t h0 (br_t hk H)
  · rw [if_neg h0] at H
    by_cases h1 : k = 1
    · rw [if_pos h1] at H
      exact br_f h0 (br_t h1 (br_t hk H))
    · rw [if_neg h1] at H
      exact br_f h0 (br_f h1 (br_t hk H))
theorem mt_w52 {post : St2 → Prop} {c w k b o f z : Int32} {a1 a2 a3 : Nat → Int32} (hk : k < 10)
    (H : post (c, w, k, mt_hold k z, o, f, a1, a2, a3)) : wX_writeOwn_52 post z c w k b o f a1 a2 a3 := by
  unfold wX_writeOwn_52
  exact mt_h hk H
theorem mt_w25 {post : St2 → Prop} {c w k b o f x : Int32} {a1 a2 a3 : Nat → Int32} (hk : k < 10)
    (H : post (c, w, k, mt_hold k b, o, f, a1, a2, a3)) : wX_writeOwn_25 post x c w k b o f a1 a2 a3 := by
  unfold wX_writeOwn_25 wX_writeOwn_30
  refine br_f (by decide) (br_c (fun e => ?_) (fun _ => mt_w52 hk H))
  unfold wX_writeOwn_51
  rw [← e]
  exact mt_w52 hk H
theorem mt_w29 {post : St2 → Prop} {c w k b o f x : Int32} {a1 a2 a3 : Nat → Int32} (hk : k < 10)
    (H : post (c, w, k, mt_hold k x, o, f, a1, a2, a3)) : wX_writeOwn_29 post x c w k b o f a1 a2 a3 := by
  unfold wX_writeOwn_29 wX_writeOwn_30 wX_writeOwn_51
  exact br_t rfl (mt_w52 hk H)
theorem mt_w {post : St2 → Prop} {c w k b o f x : Int32} {a1 a2 a3 : Nat → Int32} (hk : k < 10)
    (H : post (c, w, k, mt_own k b x, o, f, a1, a2, a3)) : wpX_writeOwn post (c, w, k, b, o, f, a1, a2, a3) x := by
  unfold mt_own at H
  unfold wpX_writeOwn
  dsimp only
  by_cases h2 : k = 2 ∧ x = 1
  · rw [if_pos h2] at H
    exact br_t h2.1 (br_t h2.2 (mt_w25 hk H))
  · rw [if_neg h2] at H
    have T : wX_writeOwn_13 post x c w k b o f a1 a2 a3 := by
      unfold wX_writeOwn_13
      by_cases h3 : k = 3 ∧ x = 0
      · rw [if_pos h3] at H
        exact br_t h3.1 (br_t h3.2 (mt_w25 hk H))
      · rw [if_neg h3] at H
        exact br_c (fun e => br_f (fun z => h3 ⟨e, z⟩) (mt_w29 hk H)) (fun _ => mt_w29 hk H)
    exact br_c (fun e => br_f (fun z => h2 ⟨e, z⟩) T) (fun _ => T)
/-- visit's loop: a WRITE at the own cell -/
theorem mt_vw {post : St2 → Prop} {m i s x : Int32} {n : Nat} (j q : Nat) {c w k b o f : Int32} {a1 a2 a3 : Nat → Int32} (hk : k < 10) (hm : vp_in m 6)
    (hj : m.toNatClampNeg = j) (hs : a2 j = s) (hi : ¬ s ≤ i) (hin : vp_in (m * 4 + i) 24) (hq : (m * 4 + i).toNatClampNeg = q) (hx : a3 q = x) (h2 : x < 2)
    (H : wX_visit_2 post m 1 n (i + 1) c w k (mt_own k b x) o f a1 a2 a3) : wX_visit_2 post m 1 (n + 1) i c w k b o f a1 a2 a3 :=
  And.intro hm (br_f (by rw [hj, hs]; exact hi) ⟨hin, nm_r (by rw [hq]; exact hx) (br_t h2 (br_f (by decide) (mt_w hk (nm_e H))))⟩)
/-- visit's loop: a READ of the own cell -/
theorem mt_vr {post : St2 → Prop} {m i s x : Int32} {n : Nat} (j q : Nat) {c w k b o f : Int32} {a1 a2 a3 : Nat → Int32} (hf : f = 0 ∨ f = 1) (hm : vp_in m 6)
    (hj : m.toNatClampNeg = j) (hs : a2 j = s) (hi : ¬ s ≤ i) (hin : vp_in (m * 4 + i) 24) (hq : (m * 4 + i).toNatClampNeg = q) (hx : a3 q = x) (h2 : ¬ x < 2)
    (H : wX_visit_2 post m 1 n (i + 1) c w k b o (mt_rd f b (x - 2)) a1 a2 a3) : wX_visit_2 post m 1 (n + 1) i c w k b o f a1 a2 a3 := by
  have hr := mt_rd01 (b := b) (x := x - 2) hf
  unfold mt_rd at H hr
  refine And.intro hm (br_f (by rw [hj, hs]; exact hi) ⟨hin, nm_r (by rw [hq]; exact hx) (br_f h2 (br_f (by decide) ?_))⟩)
  unfold wX_visit_50
  by_cases e : b = x - 2
  · rw [if_pos e] at H hr
    exact br_t e (nm_e ⟨mt_nb hr, mt_fb hr, nm_e H⟩)
  · rw [if_neg e] at H hr
    exact br_f e (nm_e ⟨mt_nb hr, mt_fb hr, nm_e H⟩)
/-- visit's loop: its end -/
theorem mt_vx {post : St2 → Prop} {m i s : Int32} {n : Nat} (j : Nat) {c w k b o f : Int32} {a1 a2 a3 : Nat → Int32} (hm : vp_in m 6)
    (hj : m.toNatClampNeg = j) (hs : a2 j = s) (hi : s ≤ i)
    (H : post (c, w, k, b, o, f, a1, a2, a3)) : wX_visit_2 post m 1 (n + 1) i c w k b o f a1 a2 a3 :=
  And.intro hm (br_t (by rw [hj, hs]; exact hi) H)
theorem mt_v0 {post : St2 → Prop} {c w k b o f x : Int32} {a1 a2 a3 : Nat → Int32} (hk : k < 10) (hx : x = 0 ∨ x = 1) (T : mt_T x a2 a3)
    (H : post (c, w, k, mt_own k b x, o, f, a1, a2, a3)) : wpX_visit post (c, w, k, b, o, f, a1, a2, a3) 0 1 := by
  obtain ⟨s0, s1, t0, t4, t5, t6⟩ := T
  have h2 : x < 2 := by rcases hx with rfl | rfl <;> decide
  exact Exists.intro 2 (mt_vw 0 0 hk (vp_in_iff.mpr (by decide)) (by decide) s0 (by decide) (vp_in_iff.mpr (by decide)) (by decide) t0 h2
    (mt_vx 0 (vp_in_iff.mpr (by decide)) (by decide) s0 (by decide) H))
theorem mt_v1 {post : St2 → Prop} {c w k b o f x : Int32} {a1 a2 a3 : Nat → Int32} (hk : k < 10) (hf : f = 0 ∨ f = 1) (hx : x = 0 ∨ x = 1) (T : mt_T x a2 a3)
    (H : post (c, w, k, mt_own k b (1 - x), o, mt_rd (mt_rd f b (2 + x - 2)) (mt_own k b (1 - x)) (3 - x - 2), a1, a2, a3)) : wpX_visit post (c, w, k, b, o, f, a1, a2, a3) 1 1 := by
  obtain ⟨s0, s1, t0, t4, t5, t6⟩ := T
  have h4 : ¬ 2 + x < 2 := by rcases hx with rfl | rfl <;> decide
  have h5 : 1 - x < 2 := by rcases hx with rfl | rfl <;> decide
  have h6 : ¬ 3 - x < 2 := by rcases hx with rfl | rfl <;> decide
  exact Exists.intro 4 (mt_vr 1 4 hf (vp_in_iff.mpr (by decide)) (by decide) s1 (by decide) (vp_in_iff.mpr (by decide)) (by decide) t4 h4
    (mt_vw 1 5 hk (vp_in_iff.mpr (by decide)) (by decide) s1 (by decide) (vp_in_iff.mpr (by decide)) (by decide) t5 h5
    (mt_vr 1 6 (mt_rd01 hf) (vp_in_iff.mpr (by decide)) (by decide) s1 (by decide) (vp_in_iff.mpr (by decide)) (by decide) t6 h6
    (mt_vx 1 (vp_in_iff.mpr (by decide)) (by decide) s1 (by decide) H))))
/-- runs' loop: one march, of a fault of one cell -/
theorem mt_r28 {post : Int32 → St2 → Prop} {n : Nat} {p m m' c w k b b' o f f' : Int32} {a1 a2 a3 : Nat → Int32} (hc : ¬ c ≤ m) (hm : vp_in m 6) (hw : ¬ m = w) (hk : ¬ 4 ≤ k) (hm' : m + 1 = m')
    (V : ∀ Q : St2 → Prop, Q (c, w, k, b', o, f', a1, a2, a3) → wpX_visit Q (c, w, k, b, o, f, a1, a2, a3) m 1)
    (H : wX_runs_28 post k p n m' c w k b' o f' a1 a2 a3) : wX_runs_28 post k p (n + 1) m c w k b o f a1 a2 a3 := by
  have t61 : ∀ z, wX_runs_61 post (wX_runs_28 post k p n) k p m z c w k b o f a1 a2 a3 := fun z => br_f hw (br_f hk (V _ (nm_r hm' H)))
  have t53 : ∀ z z', wX_runs_53 post (wX_runs_28 post k p n) k p m z z' c w k b o f a1 a2 a3 := fun z z' => br_c (fun _ => t61 1) (fun _ => t61 0)
  exact br_f hc ⟨hm, br_c (fun _ => t53 _ _) (fun _ => t53 _ _)⟩
/-- one run of a fault of one cell (or of a sound one) -/
theorem mt_runs {post : Int32 → St2 → Prop} {k0 b0 o0 f0 k p b o x : Int32} {a1 a2 a3 : Nat → Int32} (hk : k < 10) (hk4 : ¬ 4 ≤ k) (hx : x = 0 ∨ x = 1) (T : mt_T x a2 a3)
    (H : ∀ k' b' o' f', post (mt_run k x b) (2, -1, k', b', o', f', a1, a2, a3)) : wpX_runs post (2, -1, k0, b0, o0, f0, a1, a2, a3) k p b o := by
  unfold wpX_runs
  dsimp only
  refine mt_h hk (Exists.intro 3 ?_)
  refine mt_r28 (c := 2) (w := -1) (m := 0) (m' := 1) (by decide) (vp_in_iff.mpr (by decide)) (by decide) hk4 (by decide) (fun Q hQ => mt_v0 hk hx T hQ) ?_
  refine mt_r28 (c := 2) (w := -1) (m := 1) (m' := 2) (by decide) (vp_in_iff.mpr (by decide)) (by decide) hk4 (by decide) (fun Q hQ => mt_v1 hk (Or.inl rfl) hx T hQ) ?_
  exact br_t (by decide) ⟨mt_nb (mt_rd01 (mt_rd01 (Or.inl rfl))), H _ _ _ _⟩
end
section
/-- a sound cell is quiet with both fillings -/
theorem mt_q0 : ∀ x : Int32, x = 0 ∨ x = 1 → mt_run (-1) x 0 = 0 ∧ mt_run (-1) x 1 = 0 := by
  intro x hx
  rcases hx with rfl | rfl <;> exact ⟨by decide, by decide⟩
theorem mt_quiet {post : Int32 → St2 → Prop} {k b o f x : Int32} {a1 a2 a3 : Nat → Int32} (hx : x = 0 ∨ x = 1) (T : mt_T x a2 a3)
    (H : ∀ k' b' o' f', post 2 (2, -1, k', b', o', f', a1, a2, a3)) : wpX_quiet post (2, -1, k, b, o, f, a1, a2, a3) :=
  Exists.intro 3 (br_f (by decide) (mt_runs (by decide) (by decide) hx T (fun k1 b1 o1 f1 => br_t (mt_q0 x hx).1 (nm_r (e' := 1) (by decide) (nm_r (e' := 1) (by decide)
    (br_f (by decide) (mt_runs (by decide) (by decide) hx T (fun k2 b2 o2 f2 => br_t (mt_q0 x hx).2 (nm_r (e' := 2) (by decide) (nm_r (e' := 2) (by decide)
    (br_t (by decide) (H k2 b2 o2 f2))))))))))))
theorem mt_sound {post : Int32 → St2 → Prop} {k b o f x : Int32} {a1 a2 a3 : Nat → Int32} (hx : x = 0 ∨ x = 1) (T : mt_T x a2 a3)
    (H : ∀ k' b' o' f', post 1 (2, -1, k', b', o', f', a1, a2, a3)) : wpX_sound post (2, -1, k, b, o, f, a1, a2, a3) := by
  unfold wpX_sound
  dsimp only
  exact mt_quiet hx T (fun k1 b1 o1 f1 => br_t rfl (H k1 b1 o1 f1))
/-- the number of silent fillings behind filling i, s before it -/
def mt_n (k x s i : Int32) : Int32 := if mt_run k x (i &&& 1) = 0 then s + 1 else s + 0
/-- what silent answers -/
def mt_res (k x : Int32) : Int32 := (mt_n k x (mt_n k x 0 0) 1 + 0 + 0) * 2 * 2 * 2 * 2
/-- silent's loop: a filling that counts -/
theorem mt_s22 {post : Int32 → St2 → Prop} {J : Int32 → Int32 → Int32 → Int32 → Int32 → Int32 → Int32 → Int32 → (Nat → Int32) → (Nat → Int32) → (Nat → Int32) → Prop} {k p s i i' k0 b o f x : Int32} {a1 a2 a3 : Nat → Int32}
    (hk : k < 10) (hk4 : ¬ 4 ≤ k) (hx : x = 0 ∨ x = 1) (T : mt_T x a2 a3) (hi : i + 1 = i')
    (H : ∀ k' b' o' f', J (mt_n k x s i) i' 2 (-1) k' b' o' f' a1 a2 a3) : wX_silent_22 post J k p s i 2 (-1) k0 b o f a1 a2 a3 := by
  unfold wX_silent_22 wX_silent_27
  refine br_f (by decide) (mt_runs hk hk4 hx T (fun k1 b1 o1 f1 => ?_))
  have h := H k1 b1 o1 f1
  unfold mt_n at h
  by_cases e : mt_run k x (i &&& 1) = 0
  · rw [if_pos e] at h
    exact br_t e (nm_e (nm_r hi h))
  · rw [if_neg e] at h
    exact br_f e (nm_e (nm_r hi h))
/-- silent's second loop: times two, four times -/
theorem mt_s86 {post : Int32 → St2 → Prop} {s c w k b o f : Int32} {a1 a2 a3 : Nat → Int32} (H : post (s * 2 * 2 * 2 * 2) (c, w, k, b, o, f, a1, a2, a3)) :
    ∃ n, wX_silent_86 post 4 2 c w k b o f a1 a2 a3 n s 0 :=
  Exists.intro 5 (br_f (by decide) (nm_e (nm_r (e' := 1) (by decide) (br_f (by decide) (nm_e (nm_r (e' := 2) (by decide) (br_f (by decide) (nm_e (nm_r (e' := 3) (by decide) (br_f (by decide) (nm_e (nm_r (e' := 4) (by decide) (br_t (by decide) H)))))))))))))
theorem mt_silent {post : Int32 → St2 → Prop} {k0 b o f k p x : Int32} {a1 a2 a3 : Nat → Int32} (hk : k < 10) (hk4 : ¬ 4 ≤ k) (hk4' : k < 4) (hx : x = 0 ∨ x = 1) (T : mt_T x a2 a3)
    (H : ∀ k' b' o' f', post (mt_res k x) (2, -1, k', b', o', f', a1, a2, a3)) : wpX_silent post (2, -1, k0, b, o, f, a1, a2, a3) k p := by
  refine Exists.intro 5 (br_f (by decide) (br_f hk4 (br_f (by decide) (mt_s22 (i' := 1) hk hk4 hx T (by decide) (fun k1 b1 o1 f1 => ?_)))))
  refine br_f (by decide) (br_f hk4 (br_f (by decide) (mt_s22 (i' := 2) hk hk4 hx T (by decide) (fun k2 b2 o2 f2 => ?_))))
  refine br_f (by decide) (br_f hk4 (br_t (by decide) (br_t rfl (nm_e (nm_r (e' := 3) (by decide) ?_)))))
  refine br_f (by decide) (br_f hk4 (br_t (by decide) (br_t rfl (nm_e (nm_r (e' := 4) (by decide) ?_)))))
  refine br_t (by decide) (br_t hk4' ?_)
  unfold wX_silent_75
  exact mt_quiet hx T (fun k3 b3 o3 f3 => mt_s86 (H k3 b3 o3 f3))
theorem mt_isFound {post : Int32 → St2 → Prop} {k0 b o f k p x : Int32} {a1 a2 a3 : Nat → Int32} (hk : k < 10) (hk4 : ¬ 4 ≤ k) (hk4' : k < 4) (hx : x = 0 ∨ x = 1) (T : mt_T x a2 a3)
    (H1 : mt_res k x = 0 → ∀ k' b' o' f', post 1 (2, -1, k', b', o', f', a1, a2, a3)) (H0 : ¬ mt_res k x = 0 → ∀ k' b' o' f', post 0 (2, -1, k', b', o', f', a1, a2, a3)) :
    wpX_isFound post (2, -1, k0, b, o, f, a1, a2, a3) k p := by
  unfold wpX_isFound
  dsimp only
  exact mt_silent hk hk4 hk4' hx T (fun k1 b1 o1 f1 => br_c (fun e => H1 e k1 b1 o1 f1) (fun e => H0 e k1 b1 o1 f1))
theorem mt_isFault {post : Int32 → Prop} {k v a : Int32} (hk0 : ¬ k < 0) (hk14 : ¬ 14 ≤ k) (hk4' : k < 4) (hv0 : ¬ v < 0) (hv5 : ¬ 5 ≤ v) (H : post 1) : wpX_isFault post () k v a :=
  br_f hk0 (br_f hk14 (br_f hv0 (br_f hv5 (br_f (by decide) (br_t hk4' H)))))
theorem mt_finds {post : Int32 → St2 → Prop} {k0 b o f k v x : Int32} {a1 a2 a3 : Nat → Int32} (hk : k < 10) (hk4 : ¬ 4 ≤ k) (hk4' : k < 4) (hk0 : ¬ k < 0) (hk14 : ¬ 14 ≤ k)
    (hv0 : ¬ v < 0) (hv5 : ¬ 5 ≤ v) (hv9 : ¬ 9 ≤ v) (hx : x = 0 ∨ x = 1) (T : mt_T x a2 a3)
    (H1 : mt_res k x = 0 → ∀ k' b' o' f', post 1 (2, -1, k', b', o', f', a1, a2, a3)) (H0 : ¬ mt_res k x = 0 → ∀ k' b' o' f', post 0 (2, -1, k', b', o', f', a1, a2, a3)) :
    wpX_finds post (2, -1, k0, b, o, f, a1, a2, a3) k v 9 := by
  unfold wpX_finds
  dsimp only
  refine mt_isFault hk0 hk14 hk4' hv0 hv5 (br_f (by decide) (br_f hv9 ?_))
  unfold wX_finds_21
  exact mt_isFound hk hk4 hk4' hx T (fun e k1 b1 o1 f1 => br_f (by decide) (H1 e k1 b1 o1 f1)) (fun e k1 b1 o1 f1 => br_t rfl (H0 e k1 b1 o1 f1))
theorem mt_found {post : Int32 → St2 → Prop} {k0 b o f k x : Int32} {a1 a2 a3 : Nat → Int32} (hk : k < 10) (hk4 : ¬ 4 ≤ k) (hk4' : k < 4) (hk0 : ¬ k < 0) (hk14 : k < 14)
    (hx : x = 0 ∨ x = 1) (T : mt_T x a2 a3) (he : mt_res k x = 0)
    (H : ∀ k' b' o' f', post 5 (2, -1, k', b', o', f', a1, a2, a3)) : wpX_found post (2, -1, k0, b, o, f, a1, a2, a3) k := by
  unfold wpX_found
  dsimp only
  refine br_f hk0 (br_t hk14 (mt_isFound hk hk4 hk4' hx T (fun _ k1 b1 o1 f1 => ?_) (fun e => absurd he e)))
  exact br_f (by decide) (br_f hk4 (br_t hk4' (H k1 b1 o1 f1)))
theorem mt_steps {post : Int32 → Prop} {k b o f x : Int32} {a1 a2 a3 : Nat → Int32} (T : mt_T x a2 a3) (H : post 20) : wpX_steps post (2, -1, k, b, o, f, a1, a2, a3) := by
  obtain ⟨s0, s1, _⟩ := T
  have e0 : (0 : Int32) + 5 * a2 (0 : Int32).toNatClampNeg = 5 := by
    rw [show (0 : Int32).toNatClampNeg = 0 from by decide, s0]
    decide
  have e1 : (5 : Int32) + 5 * a2 (1 : Int32).toNatClampNeg = 20 := by
    rw [show (1 : Int32).toNatClampNeg = 1 from by decide, s1]
    decide
  have g2 : (2 : Int32) ≤ 2 := by decide
  have g1 : ¬ (2 : Int32) ≤ 1 := by decide
  have g0 : ¬ (2 : Int32) ≤ 0 := by decide
  exact Exists.intro 3 (br_f g0 ⟨vp_in_iff.mpr (by decide), nm_r e0 (nm_r (e' := 1) (by decide) (br_f g1 ⟨vp_in_iff.mpr (by decide), nm_r e1 (nm_r (e' := 2) (by decide) (br_t g2 H))⟩))⟩)
end
section
theorem mt_init {post : St2 → Prop} {mc ms : Nat} {c w k b o f : Int32} (hc : 3 ≤ mc) (hs : 36 ≤ ms) (H : post (c, -1, k, b, o, f, (fun _ => 0), (fun _ => 0), (fun _ => 0))) : wpX_init post mc ms (c, w, k, b, o, f) :=
  And.intro (by omega) (And.intro (by omega) (And.intro (by omega) (And.intro (by omega) (And.intro (by omega) (And.intro (by omega) H)))))
theorem mt_march {post : Int32 → St2 → Prop} {c c' w k b o f d : Int32} {a1 a2 a3 : Nat → Int32} (j : Nat) (hd : d = 0 ∨ d = 1) (h6 : c < 6) (hc : vp_in c 6) (hj : c.toNatClampNeg = j) (hc' : c + 1 = c')
    (H : ∀ a1', post (c' - 1) (c', w, k, b, o, f, a1', upd a2 j 0, a3)) : wpX_march post (c, w, k, b, o, f, a1, a2, a3) d := by
  have t : wX_march_11 post d c w k b o f a1 a2 a3 := by
    unfold wX_march_11
    rw [hj]
    exact br_t h6 ⟨hc, nm_e ⟨hc, nm_e (nm_r hc' (H _))⟩⟩
  unfold wpX_march
  dsimp only
  exact br_c (fun _ => t) (fun z => br_t (hd.resolve_left z) t)
theorem mt_op {post : Int32 → St2 → Prop} {c m s t w k b o f p y : Int32} {a1 a2 a3 : Nat → Int32} (j q : Nat) (hp0 : ¬ p < 0) (hp3 : ¬ 3 < p) (hc : ¬ c = 0) (hm : c - 1 = m) (h6 : vp_in m 6) (hj : m.toNatClampNeg = j)
    (hs : a2 j = s) (h4 : s < 4) (hin : vp_in (m * 4 + s) 24) (hq : (m * 4 + s).toNatClampNeg = q) (ht : (s + 1).toInt8.toInt32 = t) (hy : p.toInt8.toInt32 = y)
    (H : post t (c, w, k, b, o, f, a1, upd a2 j t, upd a3 q y)) : wpX_op post (c, w, k, b, o, f, a1, a2, a3) p := by
  unfold wpX_op
  dsimp only
  refine br_f hp0 (br_f hp3 (br_f hc (nm_r hm ?_)))
  rw [hj, hs, hq, ht, hy]
  refine ⟨h6, br_t h4 ⟨h6, hin, nm_e ⟨h6, h6, nm_e ⟨h6, ?_⟩⟩⟩⟩
  rw [pk_us]
  exact H
theorem mt_cell {post : Int32 → Prop} {L : Nat} {xs : Nat → Int32} {p : Int32} (i : Nat) (hL : L ≤ 4) (hi : i < 4) (hp : p = nI i) (H : ∀ v, post v) : wpL_cellAt post L xs () p := by
  subst hp
  exact pk_le L i (fun _ => H _) (fun z => ⟨pk_in i L z, H _⟩)
theorem mt_bit (x : Int32) : x &&& 1 = 0 ∨ x &&& 1 = 1 := by
  obtain ⟨j, hj, e⟩ := pk_andE x (m := 1) 1 (by decide)
  rw [e]
  rcases (show j = 0 ∨ j = 1 by omega) with rfl | rfl
  · exact Or.inl rfl
  · exact Or.inr rfl
theorem mt_kind (x : Int32) : ∃ j : Nat, j < 4 ∧ (x &&& 65535) - (x &&& 65535) / 4 * 4 = nI j := by
  obtain ⟨j, hj, e⟩ := pk_andE x (m := 65535) 16 (by decide)
  rw [e]
  exact ⟨j % 4, Nat.mod_lt _ (by decide), pk_rem (d := 4) (by omega) (by decide) (by decide)⟩
theorem mt_cellNo (x : Int32) : ∃ j : Nat, j < 5 ∧ (x &&& 65535) - (x &&& 65535) / 5 * 5 = nI j := by
  obtain ⟨j, hj, e⟩ := pk_andE x (m := 65535) 16 (by decide)
  rw [e]
  exact ⟨j % 5, Nat.mod_lt _ (by decide), pk_rem (d := 5) (by omega) (by decide) (by decide)⟩
/-- the kinds that the two marches find, and the one that they don't -/
theorem mt_all : ∀ i, i < 4 → ∀ x : Int32, x = 0 ∨ x = 1 → ((mt_res (nI i) x = 0) ↔ ¬ nI i = 3 - x) := by
  have h0 : ∀ i, i < 4 → ((mt_res (nI i) 0 = 0) ↔ ¬ nI i = 3 - 0) := by decide +kernel
  have h1 : ∀ i, i < 4 → ((mt_res (nI i) 1 = 0) ↔ ¬ nI i = 3 - 1) := by decide +kernel
  intro i hi x hx
  rcases hx with rfl | rfl
  · exact h0 i hi
  · exact h1 i hi
theorem mt_k4 : ∀ i, i < 4 → (nI i < 10 ∧ ¬ 4 ≤ nI i ∧ nI i < 4 ∧ ¬ nI i < 0 ∧ ¬ 14 ≤ nI i) := by decide +kernel
theorem mt_v5 : ∀ i, i < 5 → (¬ nI i < 0 ∧ ¬ 5 ≤ nI i ∧ ¬ 9 ≤ nI i) := by decide +kernel
theorem mt_x2 {x : Int32} (hx : x = 0 ∨ x = 1) : 2 + x < 10 ∧ ¬ 4 ≤ 2 + x ∧ 2 + x < 4 ∧ ¬ 2 + x < 0 ∧ 2 + x < 14 ∧ mt_res (2 + x) x = 0 := by
  rcases hx with rfl | rfl
  · decide +kernel
  · decide +kernel
theorem mt_xo {x : Int32} (hx : x = 0 ∨ x = 1) : (¬ x < 0 ∧ ¬ 3 < x ∧ x.toInt8.toInt32 = x) ∧ (¬ 2 + x < 0 ∧ ¬ 3 < 2 + x ∧ (2 + x).toInt8.toInt32 = 2 + x) ∧ (¬ 1 - x < 0 ∧ ¬ 3 < 1 - x ∧ (1 - x).toInt8.toInt32 = 1 - x) ∧ (¬ 3 - x < 0 ∧ ¬ 3 < 3 - x ∧ (3 - x).toInt8.toInt32 = 3 - x) := by
  rcases hx with rfl | rfl
  · decide +kernel
  · decide +kernel
theorem mt_TT (x : Int32) : mt_T x (upd (upd (upd (upd (upd (upd (fun _ => 0) 0 0) 0 1) 1 0) 1 1) 1 2) 1 3) (upd (upd (upd (upd (fun _ => 0) 0 x) 4 (2 + x)) 5 (1 - x)) 6 (3 - x)) := by
  unfold mt_T
  exact ⟨rfl, rfl, rfl, rfl, rfl, rfl⟩
theorem mt_141 {post : Int32 → St0 → Prop} {mc ms kc ks : Nat} {fi st : Int32} (h : (st = 0 ∧ fi = 1) ∨ (st = 1 ∧ fi = 0)) (H : post 1 ()) : wL_lawOf_141 post mc ms 3 1 fi 5 20 st kc ks := by
  rcases h with ⟨rfl, rfl⟩ | ⟨rfl, rfl⟩
  · exact br_t rfl (br_f (by decide) (br_t rfl (br_t rfl (br_t rfl (br_t rfl H)))))
  · exact br_t rfl (br_f (by decide) (br_f (by decide) (br_t rfl (br_t rfl (br_t rfl H)))))
theorem mt_law (p0 p1 p2 p3 : Int32) : wpL_lawOf (fun r _ => r = 1) 18 272 () p0 p1 p2 p3 := by
  unfold wpL_lawOf
  refine ⟨by decide, by decide, 17, 263, by decide, by decide, mt_init (by decide) (by decide) ?_⟩
  refine (fun x ex => And.intro (by decide) (fun k ek => And.intro (by decide) (fun v ev => ?_)))
  have hx : x = 0 ∨ x = 1 := by
    rw [ex]
    exact mt_bit p0
  obtain ⟨i, hi, ei⟩ := mt_kind p2
  rw [ei] at ek
  obtain ⟨j, hj, ej⟩ := mt_cellNo p3
  rw [ej] at ev
  subst ek ev
  obtain ⟨ka, kb, kc, kd, ke⟩ := mt_k4 i hi
  obtain ⟨va, vb, vc⟩ := mt_v5 j hj
  obtain ⟨xa, xb, xc, xd, xe, xf⟩ := mt_x2 hx
  obtain ⟨⟨o0, o1, o2⟩, ⟨q0, q1, q2⟩, ⟨r0, r1, r2⟩, ⟨s0, s1, s2⟩⟩ := mt_xo hx
  have T := mt_TT x
  refine mt_march (c := 0) (c' := 1) 0 (mt_bit p1) (by decide) (vp_in_iff.mpr (by decide)) (by decide) (by decide) (fun d0 => ?_)
  refine mt_op (c := 1) (m := 0) (s := 0) (t := 1) (y := x) 0 0 o0 o1 (by decide) (by decide) (vp_in_iff.mpr (by decide)) (by decide) rfl (by decide) (vp_in_iff.mpr (by decide)) (by decide) (by decide) o2 ?_
  refine mt_march (c := 1) (c' := 2) 1 (mt_bit _) (by decide) (vp_in_iff.mpr (by decide)) (by decide) (by decide) (fun d1 => ?_)
  refine mt_op (c := 2) (m := 1) (s := 0) (t := 1) (y := 2 + x) 1 4 q0 q1 (by decide) (by decide) (vp_in_iff.mpr (by decide)) (by decide) rfl (by decide) (vp_in_iff.mpr (by decide)) (by decide) (by decide) q2 ?_
  refine mt_op (c := 2) (m := 1) (s := 1) (t := 2) (y := 1 - x) 1 5 r0 r1 (by decide) (by decide) (vp_in_iff.mpr (by decide)) (by decide) rfl (by decide) (vp_in_iff.mpr (by decide)) (by decide) (by decide) r2 ?_
  refine mt_op (c := 2) (m := 1) (s := 2) (t := 3) (y := 3 - x) 1 6 s0 s1 (by decide) (by decide) (vp_in_iff.mpr (by decide)) (by decide) rfl (by decide) (vp_in_iff.mpr (by decide)) (by decide) (by decide) s2 ?_
  refine mt_sound hx T (fun k1 b1 o1 f1 => ?_)
  refine mt_finds ka kb kc kd ke va vb vc hx T (fun e k2 b2 o2 f2 => ?_) (fun e k2 b2 o2 f2 => ?_)
  · exact mt_found xa xb xc xd xe hx T xf (fun k3 b3 o3 f3 => mt_steps T (br_f ((mt_all i hi x hx).mp e) (mt_141 (Or.inl ⟨rfl, rfl⟩) rfl)))
  · exact mt_found xa xb xc xd xe hx T xf (fun k3 b3 o3 f3 => mt_steps T (br_t (Decidable.not_not.mp (fun z => e ((mt_all i hi x hx).mpr z))) (mt_141 (Or.inr ⟨rfl, rfl⟩) rfl)))
theorem i_vc (xs : Nat → Int32) (L : Nat) (hL : L ≤ 4) : wpL_law (fun r => r = 1) L xs := by
  unfold wpL_law
  refine mt_cell 0 hL (by decide) rfl (fun r1 => ?_)
  refine mt_cell 1 hL (by decide) rfl (fun r2 => ?_)
  refine mt_cell 2 hL (by decide) rfl (fun r3 => ?_)
  refine mt_cell 3 hL (by decide) rfl (fun r4 => ?_)
  exact ⟨18, 272, by decide, by decide, mt_law r1 r2 r3 r4⟩
end
