section
/-! ===== hold, writeOwn, writeOther, visit ===== -/
section
variable {post : St2 → Prop} {c w k b o f : Int32} {a1 a2 a3 : Nat → Int32}
/-- what hold's first test leaves in the fault's cell -/
def mt_h1 (k b : Int32) : Int32 := if k = 0 then k else if k = 1 then k else b
/-- what hold leaves in the fault's cell -/
def mt_h (k b o : Int32) : Int32 := if k < 10 then mt_h1 k b else if o = (k - 10) / 2 then (k - 10) &&& 1 else mt_h1 k b
theorem mt_h23 (b' : Int32) (hb : mt_h1 k b' = b) (H : post (c, w, k, mt_h k b' o, o, f, a1, a2, a3)) : wX_hold_23 post c w k b o f a1 a2 a3 := by
  unfold mt_h at H
  rw [hb] at H
  by_cases h : k < 10
  · rw [if_pos h] at H
    exact br_t h H
  · rw [if_neg h] at H
    refine br_f h ⟨by decide, ?_⟩
    by_cases g : o = (k - 10) / 2
    · rw [if_pos g] at H
      exact br_t g (nm_e H)
    · rw [if_neg g] at H
      exact br_f g H
theorem mt_hold (H : post (c, w, k, mt_h k b o, o, f, a1, a2, a3)) : wpX_hold post (c, w, k, b, o, f, a1, a2, a3) := by
  by_cases h0 : k = 0
  · exact br_t h0 (mt_h23 b (if_pos h0) H)
  · refine br_f h0 ?_
    by_cases h1 : k = 1
    · exact br_t h1 (mt_h23 b (by unfold mt_h1; rw [if_neg h0, if_pos h1]) H)
    · exact br_f h1 (mt_h23 b (by unfold mt_h1; rw [if_neg h0, if_neg h1]) H)
theorem mt_own52 {z : Int32} (H : ∀ b', post (c, w, k, b', o, f, a1, a2, a3)) : wX_writeOwn_52 post z c w k b o f a1 a2 a3 := by
  unfold wX_writeOwn_52
  exact mt_hold (H _)
theorem mt_own30 {x z : Int32} (H : ∀ b', post (c, w, k, b', o, f, a1, a2, a3)) : wX_writeOwn_30 post x z c w k b o f a1 a2 a3 :=
  br_c (fun _ => mt_own52 H) (fun _ => br_c (fun _ => mt_own52 H) (fun _ => mt_own52 H))
theorem mt_own13 {x : Int32} (H : ∀ b', post (c, w, k, b', o, f, a1, a2, a3)) : wX_writeOwn_13 post x c w k b o f a1 a2 a3 :=
  br_c (fun _ => br_c (fun _ => mt_own30 H) (fun _ => mt_own30 H)) (fun _ => mt_own30 H)
theorem mt_own {x : Int32} (H : ∀ b', post (c, w, k, b', o, f, a1, a2, a3)) : wpX_writeOwn post (c, w, k, b, o, f, a1, a2, a3) x :=
  br_c (fun _ => br_c (fun _ => mt_own30 H) (fun _ => mt_own13 H)) (fun _ => mt_own13 H)
theorem mt_ot148 (H : ∀ b' o', post (c, w, k, b', o', f, a1, a2, a3)) : wX_writeOther_148 post c w k b o f a1 a2 a3 := by
  unfold wX_writeOther_148
  exact mt_hold (H _ _)
theorem mt_ot128 {z : Int32} (H : ∀ b' o', post (c, w, k, b', o', f, a1, a2, a3)) : wX_writeOther_128 post z c w k b o f a1 a2 a3 :=
  br_c (fun _ => mt_ot148 H) (fun _ => nm_e (mt_ot148 H))
theorem mt_ot84 {x y : Int32} (H : ∀ b' o', post (c, w, k, b', o', f, a1, a2, a3)) : wX_writeOther_84 post x y c w k b o f a1 a2 a3 :=
  br_c (fun _ => mt_ot128 H) (fun _ => br_c (fun _ => mt_ot128 H) (fun _ => br_c (fun _ => br_c (fun _ => mt_ot128 H) (fun _ => mt_ot128 H)) (fun _ => br_c (fun _ => mt_ot128 H) (fun _ => mt_ot128 H))))
theorem mt_ot74 {x y : Int32} (H : ∀ b' o', post (c, w, k, b', o', f, a1, a2, a3)) : wX_writeOther_74 post x y c w k b o f a1 a2 a3 :=
  nm_e (mt_ot84 H)
theorem mt_ot61 {x y : Int32} (H : ∀ b' o', post (c, w, k, b', o', f, a1, a2, a3)) : wX_writeOther_61 post x y c w k b o f a1 a2 a3 :=
  br_c (fun _ => mt_ot84 H) (fun _ => br_c (fun _ => mt_ot74 H) (fun _ => mt_ot84 H))
theorem mt_ot47 {x y : Int32} (H : ∀ b' o', post (c, w, k, b', o', f, a1, a2, a3)) : wX_writeOther_47 post x y c w k b o f a1 a2 a3 :=
  br_c (fun _ => mt_ot61 H) (fun _ => br_c (fun _ => mt_ot74 H) (fun _ => mt_ot61 H))
theorem mt_ot33 {x y z : Int32} (H : ∀ b' o', post (c, w, k, b', o', f, a1, a2, a3)) : wX_writeOther_33 post x y z c w k b o f a1 a2 a3 :=
  br_c (fun _ => mt_ot47 H) (fun _ => br_c (fun _ => mt_ot47 H) (fun _ => mt_ot47 H))
theorem mt_ot13 {x z : Int32} (H : ∀ b' o', post (c, w, k, b', o', f, a1, a2, a3)) : wX_writeOther_13 post x z c w k b o f a1 a2 a3 :=
  br_c (fun _ => mt_ot33 H) (fun _ => br_c (fun _ => mt_ot33 H) (fun _ => mt_ot33 H))
theorem mt_other {x : Int32} (H : ∀ b' o', post (c, w, k, b', o', f, a1, a2, a3)) : wpX_writeOther post (c, w, k, b, o, f, a1, a2, a3) x :=
  br_c (fun _ => mt_ot13 H) (fun _ => mt_ot13 H)

/-! the visit of march 0 -/
theorem mt_ix : ((0 : Int32) * 4 + 0).toNatClampNeg = 0 := by decide
theorem mt_vend {n : Nat} {p x : Int32} (h : a2 0 ≤ x) (H : post (c, w, k, b, o, f, a1, a2, a3)) : wX_visit_2 post 0 p (n + 1) x c w k b o f a1 a2 a3 :=
  ⟨pk_in 0 6 (by decide), br_t (by rw [sb_cl0]; exact h) H⟩
theorem mt_one {a : Nat → Int32} (h : a 0 = 1) : a 0 ≤ 0 + 1 := by rw [h]; decide
theorem mt_vW {p : Int32} (h : a2 0 = 1) (h3 : a3 0 < 2) (H : ∀ b' o', post (c, w, k, b', o', f, a1, a2, a3)) : wX_visit_2 post 0 p 2 0 c w k b o f a1 a2 a3 := by
  refine ⟨pk_in 0 6 (by decide), br_f (by rw [sb_cl0, h]; decide) ⟨pk_in 0 24 (by decide), fun y hy => ?_⟩⟩
  rw [mt_ix] at hy
  refine br_t (by rw [hy]; exact h3) (br_c (fun _ => mt_other fun b' o' => ?_) (fun _ => mt_own fun b' => ?_))
  · intro x hx
    rw [hx]
    exact mt_vend (mt_one h) (H _ _)
  · intro x hx
    rw [hx]
    exact mt_vend (mt_one h) (H _ _)
/-- no read in march 0 -/
def mt_Q (a2 a3 : Nat → Int32) : Prop := a2 0 = 0 ∨ (a2 0 = 1 ∧ a3 0 < 2)
theorem mt_visitN {p : Int32} (hq : mt_Q a2 a3) (H : ∀ b' o', post (c, w, k, b', o', f, a1, a2, a3)) : wpX_visit post (c, w, k, b, o, f, a1, a2, a3) 0 p := by
  rcases hq with h | ⟨h, h3⟩
  · exact ⟨1, mt_vend (by rw [h]; decide) (H _ _)⟩
  · exact ⟨2, mt_vW h h3 H⟩
/-- whether a read fails -/
def mt_nq (x y : Int32) : Int32 := if x = y then 0 else 1
def mt_bit (f : Int32) : Prop := f = 0 ∨ f = 1
theorem mt_nb {f : Int32} (h : mt_bit f) : narrow .boolean (.int f) = .int f := by
  rcases h with e | e <;> rw [e] <;> first | rfl | decide
theorem mt_fb {f : Int32} (h : mt_bit f) : fits .boolean (.int f) = true := by
  rcases h with e | e <;> rw [e] <;> first | rfl | decide
theorem mt_or {f : Int32} (h : mt_bit f) (x y : Int32) : mt_bit (f ||| mt_nq x y) := by
  unfold mt_nq
  by_cases e : x = y
  · rw [if_pos e]
    rcases h with h | h <;> rw [h]
    · exact Or.inl (by decide)
    · exact Or.inr (by decide)
  · rw [if_neg e]
    rcases h with h | h <;> rw [h] <;> exact Or.inr (by decide)
theorem mt_v50 {J : Int32 → Int32 → Int32 → Int32 → Int32 → Int32 → Int32 → (Nat → Int32) → (Nat → Int32) → (Nat → Int32) → Prop} {x1 x2 x3 x4 z0 z1 : Int32} (hz : mt_bit z1)
    (H : J (x3 + 1) c w k b o (z1 ||| mt_nq z0 (x4 - 2)) a1 a2 a3) : wX_visit_50 post J x1 x2 x3 x4 z0 z1 c w k b o f a1 a2 a3 := by
  have hb := mt_or hz z0 (x4 - 2)
  unfold mt_nq at H hb
  by_cases h : z0 = x4 - 2
  · rw [if_pos h] at H hb
    exact br_t h (nm_e ⟨mt_nb hb, mt_fb hb, nm_e H⟩)
  · rw [if_neg h] at H hb
    exact br_f h (nm_e ⟨mt_nb hb, mt_fb hb, nm_e H⟩)
theorem mt_visitR {p t : Int32} (h : a2 0 = 1) (h3 : a3 0 = t) (ht : ¬ t < 2) (hf : mt_bit f) (H : post (c, w, k, b, o, f ||| mt_nq (if p = 0 then o else b) (t - 2), a1, a2, a3)) :
    wpX_visit post (c, w, k, b, o, f, a1, a2, a3) 0 p := by
  refine ⟨2, ⟨pk_in 0 6 (by decide), br_f (by rw [sb_cl0, h]; decide) ⟨pk_in 0 24 (by decide), fun y hy => ?_⟩⟩⟩
  rw [mt_ix, h3] at hy
  rw [hy]
  by_cases e : p = 0
  · rw [if_pos e] at H
    exact br_f ht (br_t e (mt_v50 hf (mt_vend (mt_one h) H)))
  · rw [if_neg e] at H
    exact br_f ht (br_f e (mt_v50 hf (mt_vend (mt_one h) H)))
end
end
section
/-! ===== runs ===== -/
section
variable {post : Int32 → St2 → Prop} {c w k b o f : Int32} {a1 a2 a3 : Nat → Int32} {J : Int32 → Int32 → Int32 → Int32 → Int32 → Int32 → Int32 → (Nat → Int32) → (Nat → Int32) → (Nat → Int32) → Prop}
theorem mt_rend {n : Nat} {x1 x2 x : Int32} (h : c ≤ x) (hf : mt_bit f) (H : post f (c, w, k, b, o, f, a1, a2, a3)) : wX_runs_28 post x1 x2 (n + 1) x c w k b o f a1 a2 a3 :=
  br_t h ⟨mt_nb hf, H⟩
/-- march 0 is left out -/
theorem mt_rw0 {x1 x2 z : Int32} (hw : w = 0) (H : J (0 + 1) c w k b o f a1 a2 a3) : wX_runs_61 post J x1 x2 0 z c w k b o f a1 a2 a3 :=
  br_t hw.symm (br_t hw.symm (nm_e H))
/-- no read -/
theorem mt_rN87 {x1 x2 z : Int32} (hw : ¬ w = 0) (hq : mt_Q a2 a3) (H : ∀ b' o', J (0 + 1) c w k b' o' f a1 a2 a3) : wX_runs_87 post J x1 x2 0 z c w k b o f a1 a2 a3 := by
  refine br_f (fun e => hw e.symm) (mt_visitN hq fun b' o' => br_c (fun _ => ?_) (fun _ => ?_))
  · exact mt_visitN hq fun b'' o'' => nm_e (H _ _)
  · exact mt_visitN hq fun b'' o'' => nm_e (H _ _)
theorem mt_rN61 {x1 x2 z : Int32} (hw : ¬ w = 0) (hq : mt_Q a2 a3) (H : ∀ b' o', J (0 + 1) c w k b' o' f a1 a2 a3) : wX_runs_61 post J x1 x2 0 z c w k b o f a1 a2 a3 :=
  br_f (fun e => hw e.symm) (br_c (fun _ => mt_rN87 hw hq H) (fun _ => mt_visitN hq fun b'' o'' => nm_e (H _ _)))
/-- one turn of the loop over marches, whatever march 0's direction -/
theorem mt_rturn {n : Nat} {x1 x2 : Int32} (hc : c = 1) (H : ∀ z, wX_runs_61 post (wX_runs_28 post x1 x2 n) x1 x2 0 z c w k b o f a1 a2 a3) : wX_runs_28 post x1 x2 (n + 1) 0 c w k b o f a1 a2 a3 :=
  br_f (by rw [hc]; decide) ⟨pk_in 0 6 (by decide), br_c (fun _ => br_c (fun _ => H _) (fun _ => H _)) (fun _ => br_c (fun _ => H _) (fun _ => H _))⟩
/-- runs answers ρ kind bit other, and keeps count, without and the arrays -/
def mt_Run (c w : Int32) (a1 a2 a3 : Nat → Int32) (ρ : Int32 → Int32 → Int32 → Int32) : Prop :=
  ∀ (post : Int32 → St2 → Prop) (k b o f p0 p1 p2 p3 : Int32), (∀ k' b' o' f', post (ρ p0 p2 p3) (c, w, k', b', o', f', a1, a2, a3)) → wpX_runs post (c, w, k, b, o, f, a1, a2, a3) p0 p1 p2 p3
def mt_r0 (_ _ _ : Int32) : Int32 := 0
/-- a configuration in which nothing is read -/
def mt_N (c w : Int32) (a2 a3 : Nat → Int32) : Prop := c = 0 ∨ (c = 1 ∧ (w = 0 ∨ mt_Q a2 a3))
theorem mt_runN (h : mt_N c w a2 a3) : mt_Run c w a1 a2 a3 mt_r0 := by
  intro post k b o f p0 p1 p2 p3 H
  refine mt_hold ?_
  rcases h with h | ⟨h, hq⟩
  · exact ⟨1, mt_rend (by rw [h]; decide) (Or.inl rfl) (H _ _ _ _)⟩
  · have hc : c ≤ 0 + 1 := by rw [h]; decide
    refine ⟨2, mt_rturn h fun z => ?_⟩
    by_cases hw : w = 0
    · exact mt_rw0 hw (mt_rend hc (Or.inl rfl) (H _ _ _ _))
    · exact mt_rN61 hw (hq.resolve_left hw) (fun b' o' => mt_rend hc (Or.inl rfl) (H _ _ _ _))
/-- the answer where one march reads the bit e -/
def mt_rR (e k b o : Int32) : Int32 := if 4 ≤ k then mt_nq (mt_h k b o) e ||| mt_nq o e else mt_nq (mt_h k b o) e
theorem mt_nq2 (x y : Int32) : mt_nq x y = 0 ∨ mt_nq x y = 1 := by
  unfold mt_nq
  by_cases e : x = y
  · exact Or.inl (if_pos e)
  · exact Or.inr (if_neg e)
theorem mt_or1 {x y : Int32} (hx : mt_bit x) (hy : mt_bit y) : (0 ||| x) ||| y = x ||| y ∧ (0 ||| y) ||| x = x ||| y ∧ 0 ||| x = x ∧ mt_bit (x ||| y) := by
  rcases hx with h | h <;> rcases hy with g | g <;> rw [h, g]
  · exact ⟨by decide, by decide, by decide, Or.inl (by decide)⟩
  · exact ⟨by decide, by decide, by decide, Or.inr (by decide)⟩
  · exact ⟨by decide, by decide, by decide, Or.inr (by decide)⟩
  · exact ⟨by decide, by decide, by decide, Or.inr (by decide)⟩
theorem mt_rR87 {x1 x2 z t : Int32} (hw : ¬ w = 0) (h : a2 0 = 1) (h3 : a3 0 = t) (ht : ¬ t < 2)
    (H : J (0 + 1) c w k b o (mt_nq b (t - 2) ||| mt_nq o (t - 2)) a1 a2 a3) : wX_runs_87 post J x1 x2 0 z c w k b o 0 a1 a2 a3 := by
  obtain ⟨e1, e2, e3, e4⟩ := mt_or1 (mt_nq2 b (t - 2)) (mt_nq2 o (t - 2))
  refine br_f (fun e => hw e.symm) (mt_visitR h h3 ht (Or.inl rfl) ?_)
  by_cases hz : z = 0
  · refine br_t hz ?_
    rw [if_pos hz]
    refine mt_visitR h h3 ht (mt_or (Or.inl rfl) _ _) ?_
    rw [if_neg (by decide), e2]
    exact nm_e H
  · refine br_f hz ?_
    rw [if_neg hz]
    refine mt_visitR h h3 ht (mt_or (Or.inl rfl) _ _) ?_
    rw [if_pos rfl, e1]
    exact nm_e H
theorem mt_runR {t : Int32} (hc : c = 1) (hw : ¬ w = 0) (h : a2 0 = 1) (h3 : a3 0 = t) (ht : ¬ t < 2) : mt_Run c w a1 a2 a3 (mt_rR (t - 2)) := by
  intro post k b o f p0 p1 p2 p3 H
  refine mt_hold ?_
  have hc1 : c ≤ 0 + 1 := by rw [hc]; decide
  obtain ⟨e1, e2, e3, e4⟩ := mt_or1 (mt_nq2 (mt_h p0 p2 p3) (t - 2)) (mt_nq2 p3 (t - 2))
  refine ⟨2, mt_rturn hc fun z => br_f (fun e => hw e.symm) ?_⟩
  unfold mt_rR at H
  by_cases h4 : 4 ≤ p0
  · rw [if_pos h4] at H
    exact br_t h4 (mt_rR87 hw h h3 ht (mt_rend hc1 e4 (H _ _ _ _)))
  · rw [if_neg h4] at H
    refine br_f h4 (mt_visitR h h3 ht (Or.inl rfl) ?_)
    rw [if_neg (by decide), e3]
    exact nm_e (mt_rend hc1 (mt_nq2 _ _) (H _ _ _ _))
end
end
section
/-! ===== quiet, silent, isFound, foundSet, spare, foundFrom: over what runs answers ===== -/
section
variable {post : Int32 → St2 → Prop} {c w k b o f : Int32} {a1 a2 a3 : Nat → Int32} {ρ : Int32 → Int32 → Int32 → Int32}
def mt_g (r : Int32) : Int32 := if r = 0 then 1 else 0
def mt_qv (ρ : Int32 → Int32 → Int32 → Int32) : Int32 := (0 + mt_g (ρ (-1) 0 0)) + mt_g (ρ (-1) 1 0)
theorem mt_q4 {n : Nat} {x1 x2 : Int32} (hR : mt_Run c w a1 a2 a3 ρ) (h : ¬ 2 ≤ x2) (H : ∀ k b o f, wX_quiet_4 post n (x1 + mt_g (ρ (-1) x2 0)) (x2 + 1) c w k b o f a1 a2 a3) :
    wX_quiet_4 post (n + 1) x1 x2 c w k b o f a1 a2 a3 := by
  refine br_f h (hR _ k b o f (-1) 1 x2 0 fun k' b' o' f' => ?_)
  have H' := H k' b' o' f'
  unfold mt_g at H'
  by_cases g : ρ (-1) x2 0 = 0
  · rw [if_pos g] at H'
    exact br_t g (nm_e (nm_e H'))
  · rw [if_neg g] at H'
    exact br_f g (nm_e (nm_e H'))
theorem mt_quiet (hR : mt_Run c w a1 a2 a3 ρ) (H : ∀ k b o f, post (mt_qv ρ) (c, w, k, b, o, f, a1, a2, a3)) : wpX_quiet post (c, w, k, b, o, f, a1, a2, a3) := by
  refine ⟨3, mt_q4 hR (by decide) fun k b o f => ?_⟩
  rw [show (0 : Int32) + 1 = 1 by decide]
  refine mt_q4 hR (by decide) fun k b o f => ?_
  exact br_t (by decide) (H k b o f)
theorem mt_sound (hR : mt_Run c w a1 a2 a3 ρ) (H : ∀ k b o f, post (if mt_qv ρ = 2 then 1 else 0) (c, w, k, b, o, f, a1, a2, a3)) : wpX_sound post (c, w, k, b, o, f, a1, a2, a3) := by
  refine mt_quiet hR fun k b o f => ?_
  have H' := H k b o f
  by_cases g : mt_qv ρ = 2
  · rw [if_pos g] at H'
    exact br_t g H'
  · rw [if_neg g] at H'
    exact br_f g H'
/-! silent -/
theorem mt_s86 {n : Nat} {x4 x5 x3 x6 : Int32} (h : ¬ x4 ≤ x6) (H : wX_silent_86 post x4 x5 c w k b o f a1 a2 a3 n (x3 * x5) (x6 + 1)) : wX_silent_86 post x4 x5 c w k b o f a1 a2 a3 (n + 1) x3 x6 :=
  br_f h (nm_e (nm_e H))
theorem mt_s86e {n : Nat} {x4 x5 x3 x6 : Int32} (h : x4 ≤ x6) (H : post x3 (c, w, k, b, o, f, a1, a2, a3)) : wX_silent_86 post x4 x5 c w k b o f a1 a2 a3 (n + 1) x3 x6 :=
  br_t h H
theorem mt_s75a {x3 : Int32} (hR : mt_Run c w a1 a2 a3 ρ) (H : ∀ k b o f, post (x3 * mt_qv ρ * mt_qv ρ * mt_qv ρ * mt_qv ρ) (c, w, k, b, o, f, a1, a2, a3)) : wX_silent_75 post x3 4 c w k b o f a1 a2 a3 := by
  refine mt_quiet hR fun k b o f => ?_
  exact ⟨5, mt_s86 (by decide) (mt_s86 (by decide) (mt_s86 (by decide) (mt_s86 (by decide) (mt_s86e (by decide) (H k b o f)))))⟩
theorem mt_s75b {x3 : Int32} (hR : mt_Run c w a1 a2 a3 ρ) (H : ∀ k b o f, post (x3 * mt_qv ρ * mt_qv ρ * mt_qv ρ) (c, w, k, b, o, f, a1, a2, a3)) : wX_silent_75 post x3 3 c w k b o f a1 a2 a3 := by
  refine mt_quiet hR fun k b o f => ?_
  exact ⟨4, mt_s86 (by decide) (mt_s86 (by decide) (mt_s86 (by decide) (mt_s86e (by decide) (H k b o f))))⟩
/-- a filling that counts -/
theorem mt_s22 {J : Int32 → Int32 → Int32 → Int32 → Int32 → Int32 → Int32 → Int32 → (Nat → Int32) → (Nat → Int32) → (Nat → Int32) → Prop} {x1 x2 x3 x4 : Int32} (x4' bb oo : Int32) (hR : mt_Run c w a1 a2 a3 ρ)
    (e1 : x4 &&& 1 = bb) (e2 : x4 >>> ((1 : Int32) &&& 31) = oo) (e3 : x4 + 1 = x4') (H : ∀ k b o f, J (x3 + mt_g (ρ x1 bb oo)) x4' c w k b o f a1 a2 a3) : wX_silent_22 post J x1 x2 x3 x4 c w k b o f a1 a2 a3 := by
  refine br_f (by decide) (hR _ k b o f x1 x2 (x4 &&& 1) (x4 >>> ((1 : Int32) &&& 31)) fun k' b' o' f' => ?_)
  have H' := H k' b' o' f'
  rw [e1, e2]
  unfold mt_g at H'
  by_cases g : ρ x1 bb oo = 0
  · rw [if_pos g] at H'
    exact br_t g (nm_e (nm_r e3 H'))
  · rw [if_neg g] at H'
    exact br_f g (nm_e (nm_r e3 H'))
/-- the fillings with which nothing fails -/
def mt_silN (ρ : Int32 → Int32 → Int32 → Int32) (k : Int32) : Int32 :=
  if k < 4 then (((0 + mt_g (ρ k 0 0)) + mt_g (ρ k 1 0)) + 0) + 0 else (((0 + mt_g (ρ k 0 0)) + mt_g (ρ k 1 0)) + mt_g (ρ k 0 1)) + mt_g (ρ k 1 1)
def mt_sil (ρ : Int32 → Int32 → Int32 → Int32) (k : Int32) : Int32 :=
  if k < 4 then mt_silN ρ k * mt_qv ρ * mt_qv ρ * mt_qv ρ * mt_qv ρ else mt_silN ρ k * mt_qv ρ * mt_qv ρ * mt_qv ρ
theorem mt_lt4 {x : Int32} : x < 4 ↔ ¬ (4 : Int32) ≤ x := by
  rw [Int32.lt_iff_toInt_lt, Int32.le_iff_toInt_le]
  omega
theorem mt_silent {p0 p1 : Int32} (hR : mt_Run c w a1 a2 a3 ρ) (H : ∀ k b o f, post (mt_sil ρ p0) (c, w, k, b, o, f, a1, a2, a3)) : wpX_silent post (c, w, k, b, o, f, a1, a2, a3) p0 p1 := by
  unfold mt_sil mt_silN at H
  by_cases h : p0 < 4
  · rw [if_pos h, if_pos h] at H
    have h4 : ¬ 4 ≤ p0 := mt_lt4.mp h
    refine ⟨5, br_f (by decide) (br_f h4 (br_f (by decide) (mt_s22 1 0 0 hR (by decide) (by decide) (by decide) fun k b o f => ?_)))⟩
    refine br_f (by decide) (br_f h4 (br_f (by decide) (mt_s22 2 1 0 hR (by decide) (by decide) (by decide) fun k b o f => ?_)))
    refine br_f (by decide) (br_f h4 (br_t (by decide) (br_t rfl (nm_e (nm_r (e' := 3) (by decide) ?_)))))
    refine br_f (by decide) (br_f h4 (br_t (by decide) (br_t rfl (nm_e (nm_r (e' := 4) (by decide) ?_)))))
    exact br_t (by decide) (br_t h (mt_s75a hR H))
  · rw [if_neg h, if_neg h] at H
    have h4 : 4 ≤ p0 := Classical.not_not.mp (fun z => h (mt_lt4.mpr z))
    refine ⟨5, br_f (by decide) (br_t h4 (mt_s22 1 0 0 hR (by decide) (by decide) (by decide) fun k b o f => ?_))⟩
    refine br_f (by decide) (br_t h4 (mt_s22 2 1 0 hR (by decide) (by decide) (by decide) fun k b o f => ?_))
    refine br_f (by decide) (br_t h4 (mt_s22 3 0 1 hR (by decide) (by decide) (by decide) fun k b o f => ?_))
    refine br_f (by decide) (br_t h4 (mt_s22 4 1 1 hR (by decide) (by decide) (by decide) fun k b o f => ?_))
    exact br_t (by decide) (br_f h (mt_s75b hR H))
theorem mt_isFound {p0 p1 : Int32} (hR : mt_Run c w a1 a2 a3 ρ) (H1 : mt_sil ρ p0 = 0 → ∀ k b o f, post 1 (c, w, k, b, o, f, a1, a2, a3)) (H0 : ¬ mt_sil ρ p0 = 0 → ∀ k b o f, post 0 (c, w, k, b, o, f, a1, a2, a3)) : wpX_isFound post (c, w, k, b, o, f, a1, a2, a3) p0 p1 := by
  refine mt_silent hR fun k b o f => ?_
  exact br_c (fun g => H1 g k b o f) (fun g => H0 g k b o f)
/-! foundSet -/
def mt_fs (ρ : Int32 → Int32 → Int32 → Int32) : Nat → Int32
  | 0 => 0
  | i + 1 => (mt_fs ρ i ||| (if mt_sil ρ (nI i) = 0 then (1 : Int32) <<< ((2 * nI i) &&& 31) else 0)) ||| (if mt_sil ρ (nI i) = 0 then (2 : Int32) <<< ((2 * nI i) &&& 31) else 0)
theorem mt_fs29 {J : Int32 → Int32 → Int32 → Int32 → Int32 → Int32 → Int32 → Int32 → (Nat → Int32) → (Nat → Int32) → (Nat → Int32) → Prop} {i : Nat} {z x : Int32} (hR : mt_Run c w a1 a2 a3 ρ)
    (H : ∀ k b o f, J ((x ||| z) ||| (if mt_sil ρ (nI i) = 0 then (2 : Int32) <<< ((2 * nI i) &&& 31) else 0)) (nI (i + 1)) c w k b o f a1 a2 a3) : wX_foundSet_29 post J (nI i) z x c w k b o f a1 a2 a3 := by
  refine nm_e (mt_isFound hR (fun g k b o f => ?_) (fun g k b o f => ?_))
  · have H' := H k b o f
    rw [if_pos g] at H'
    exact br_f (by decide) (nm_e (nm_r (nI_1 i) H'))
  · have H' := H k b o f
    rw [if_neg g] at H'
    exact br_t rfl (nm_e (nm_r (nI_1 i) H'))
theorem mt_foundSet (hR : mt_Run c w a1 a2 a3 ρ) (H : ∀ k b o f, post (mt_fs ρ 14) (c, w, k, b, o, f, a1, a2, a3)) : wpX_foundSet post (c, w, k, b, o, f, a1, a2, a3) := by
  refine pk_loop (σ := Int32 × Int32 × Int32 × Int32) (fun n i s => wX_foundSet_4 post n (mt_fs ρ i) (nI i) c w s.1 s.2.1 s.2.2.1 s.2.2.2 a1 a2 a3) (fun _ _ => True) 14 0 (k, b, o, f) (by omega) trivial ?_ ?_
  · intro n s _
    exact br_t (by decide) (H s.1 s.2.1 s.2.2.1 s.2.2.2)
  · intro n i s hi _ hw
    refine br_f (nI_ge (b := 14) hi (by decide)) (mt_isFound hR (fun g k b o f => ?_) (fun g k b o f => ?_))
    · refine br_f (by decide) (mt_fs29 hR fun k b o f => ?_)
      have t : wX_foundSet_4 post n (mt_fs ρ (i + 1)) (nI (i + 1)) c w k b o f a1 a2 a3 := hw (k, b, o, f) trivial
      unfold mt_fs at t
      rw [if_pos g, if_pos g] at t
      rw [if_pos g]
      exact t
    · refine br_t rfl (mt_fs29 hR fun k b o f => ?_)
      have t : wX_foundSet_4 post n (mt_fs ρ (i + 1)) (nI (i + 1)) c w k b o f a1 a2 a3 := hw (k, b, o, f) trivial
      unfold mt_fs at t
      rw [if_neg g, if_neg g] at t
      rw [if_neg g]
      exact t
/-! spare -/
theorem mt_fs0 : mt_fs mt_r0 14 = 0 := by decide +kernel
theorem mt_spare0 (hc : c = 0) (hR : mt_Run c w a1 a2 a3 ρ) (H : ∀ k b o f, post 0 (c, -1, k, b, o, f, a1, a2, a3)) : wpX_spare post (c, w, k, b, o, f, a1, a2, a3) := by
  refine mt_foundSet hR fun k b o f => ?_
  exact ⟨1, br_t (by rw [hc]; decide) (H k b o f)⟩
theorem mt_spare1 (hc : c = 1) (hR : mt_Run c w a1 a2 a3 ρ) (H1 : ∀ k b o f, post 1 (c, -1, k, b, o, f, a1, a2, a3)) (H0 : ¬ mt_fs ρ 14 = 0 → ∀ k b o f, post 0 (c, -1, k, b, o, f, a1, a2, a3)) : wpX_spare post (c, w, k, b, o, f, a1, a2, a3) := by
  refine mt_foundSet hR fun k b o f => ⟨2, br_f (by rw [hc]; decide) ?_⟩
  have hN : mt_Run c 0 a1 a2 a3 mt_r0 := mt_runN (Or.inr ⟨hc, Or.inl rfl⟩)
  have hc1 : c ≤ 0 + 1 := by rw [hc]; decide
  refine mt_foundSet hN fun k b o f => ?_
  rw [mt_fs0]
  refine br_c (fun _ => nm_r (e' := 1) (by decide) (nm_e (br_t hc1 (H1 k b o f)))) (fun g => nm_r (e' := 0) (by decide) (nm_e (br_t hc1 (H0 (fun z => g ?_) k b o f))))
  rw [z]
  decide
/-! isFault, foundFrom -/
def mt_F (k v a : Int32) : Prop := ¬ k < 0 ∧ ¬ 13 < k ∧ ¬ v < 0 ∧ ¬ 4 < v ∧ (k < 4 ∨ (¬ a < 0 ∧ ¬ 4 < a ∧ ¬ a = v))
theorem mt_14 {x : Int32} : 14 ≤ x ↔ 13 < x := by
  rw [Int32.lt_iff_toInt_lt, Int32.le_iff_toInt_le]
  have h1 : (14 : Int32).toInt = 14 := by decide
  have h2 : (13 : Int32).toInt = 13 := by decide
  omega
theorem mt_5 {x : Int32} : 5 ≤ x ↔ 4 < x := by
  rw [Int32.lt_iff_toInt_lt, Int32.le_iff_toInt_le]
  have h1 : (5 : Int32).toInt = 5 := by decide
  have h2 : (4 : Int32).toInt = 4 := by decide
  omega
theorem mt_isFault {post : Int32 → Prop} {k v a : Int32} (H1 : mt_F k v a → post 1) (H0 : ¬ mt_F k v a → post 0) : wpX_isFault post () k v a := by
  refine br_c (fun g => br_t rfl (H0 fun z => z.1 g)) (fun g1 => ?_)
  refine br_c (fun g => br_t rfl (H0 fun z => z.2.1 (mt_14.mp g))) (fun g2 => ?_)
  refine br_c (fun g => br_t rfl (H0 fun z => z.2.2.1 g)) (fun g3 => ?_)
  refine br_c (fun g => br_t rfl (H0 fun z => z.2.2.2.1 (mt_5.mp g))) (fun g4 => br_f (by decide) ?_)
  have k2 : ¬ 13 < k := fun z => g2 (mt_14.mpr z)
  have k4 : ¬ 4 < v := fun z => g4 (mt_5.mpr z)
  refine br_c (fun g => H1 ⟨g1, k2, g3, k4, Or.inl g⟩) (fun g5 => ?_)
  refine br_c (fun g => H0 fun z => (z.2.2.2.2.resolve_left g5).1 g) (fun g6 => ?_)
  refine br_c (fun g => H0 fun z => (z.2.2.2.2.resolve_left g5).2.1 (mt_5.mp g)) (fun g7 => ?_)
  exact br_c (fun g => H0 fun z => (z.2.2.2.2.resolve_left g5).2.2 g) (fun g8 => H1 ⟨g1, k2, g3, k4, Or.inr ⟨g6, fun z => g7 (mt_5.mpr z), g8⟩⟩)
theorem mt_from {p0 p1 p2 : Int32} (hR : mt_Run c w a1 a2 a3 ρ) (H : ∀ r k b o f, (mt_F p0 p1 p2 → r = 32 - mt_sil ρ p0) → (¬ mt_F p0 p1 p2 → r = -1) → post r (c, w, k, b, o, f, a1, a2, a3)) : wpX_foundFrom post (c, w, k, b, o, f, a1, a2, a3) p0 p1 p2 := by
  refine mt_isFault (fun g => ?_) (fun g => ?_)
  · refine br_f (by decide) (br_c (fun _ => ?_) (fun _ => ?_))
    · exact mt_silent hR fun k b o f => H _ k b o f (fun _ => rfl) (fun z => absurd g z)
    · exact mt_silent hR fun k b o f => H _ k b o f (fun _ => rfl) (fun z => absurd g z)
  · exact br_t rfl (H _ k b o f (fun z => absurd z g) (fun _ => rfl))
end
end
section
/-! ===== the law's own tail: what it makes of the answers ===== -/
section
variable {post : Int32 → St0 → Prop} {mc ms kc ks : Nat} {x1 x2 x3 x4 x6 x7 x8 x9 x10 x11 x12 x13 x14 x15 x16 x18 : Int32}
theorem mt_355 (h : x11 = if x13 = 0 then (if x12 = 0 then -1 else 0) else 1) (H : post 1 ()) : wL_lawOf_355 post mc ms x11 x12 x13 kc ks := by
  by_cases h13 : x13 = 0
  · rw [if_pos h13] at h
    by_cases h12 : x12 = 0
    · rw [if_pos h12] at h
      exact br_t h13 (br_t h12 (br_t h H))
    · rw [if_neg h12] at h
      exact br_t h13 (br_f h12 (br_t h H))
  · rw [if_neg h13] at h
    exact br_f h13 (br_t h H)
theorem mt_335 (h : x14 = 0 → x10 = if x12 = 0 then 0 else 1) (H : wL_lawOf_355 post mc ms x11 x12 x13 kc ks) : wL_lawOf_335 post mc ms x10 x11 x12 x13 x14 kc ks := by
  refine br_c (fun g => ?_) (fun _ => H)
  have h' := h g
  by_cases h12 : x12 = 0
  · rw [if_pos h12] at h'
    exact br_t h12 (br_t h' H)
  · rw [if_neg h12] at h'
    exact br_f h12 (br_t h' H)
theorem mt_316 {z0 : Int32} (hz : x9 = z0) (h : x10 = 0 ∨ (¬ x12 = 0 ∧ x10 = 1)) (H : wL_lawOf_335 post mc ms x10 x11 x12 x13 x14 kc ks) : wL_lawOf_316 post mc ms x10 x11 x12 x13 x14 z0 x9 kc ks := by
  refine br_t hz ?_
  by_cases h10 : x10 = 0
  · exact br_t h10 H
  · have g := h.resolve_left h10
    exact br_f h10 (br_f g.1 (br_t g.2 H))
/-- the answers but foundFrom's, and the law's three marks, fit -/
def mt_ok (x6 x7 x8 x10 x11 x12 x13 x14 : Int32) : Prop :=
  x6 = (if x12 = 0 then -1 else 0) ∧ x7 = (if x13 = 0 then -1 else 1) ∧ x8 = (if x14 = 0 then 1 else 0) ∧ (x10 = 0 ∨ (¬ x12 = 0 ∧ x10 = 1)) ∧ (x14 = 0 → x10 = if x12 = 0 then 0 else 1) ∧ x11 = (if x13 = 0 then (if x12 = 0 then -1 else 0) else 1)
theorem mt_256 {z0 : Int32} (ok : mt_ok x6 x7 x8 x10 x11 x12 x13 x14) (h0 : x18 = 0 → x9 = -1) (h1 : ¬ x18 = 0 → x9 = z0) (H : post 1 ()) : wL_lawOf_256 post mc ms x6 x7 x8 x9 x10 x11 x12 x13 x14 x18 z0 kc ks := by
  obtain ⟨e6, e7, e8, e10, e10', e11⟩ := ok
  have T : ∀ z, x9 = z → wL_lawOf_316 post mc ms x10 x11 x12 x13 x14 z x9 kc ks := fun z hz => mt_316 hz e10 (mt_335 e10' (mt_355 e11 H))
  have T3 : ∀ z, x8 = z → wL_lawOf_300 post mc ms x9 x10 x11 x12 x13 x14 x18 z0 z x8 kc ks := fun z hz => br_t hz (br_c (fun g => T _ (h0 g)) (fun g => T _ (h1 g)))
  have T2 : ∀ z, x7 = z → wL_lawOf_285 post mc ms x8 x9 x10 x11 x12 x13 x14 x18 z0 z x7 kc ks := fun z hz => br_t hz (br_c (fun g => T3 _ (by rw [e8, if_pos g])) (fun g => T3 _ (by rw [e8, if_neg g])))
  have T1 : ∀ z, x6 = z → wL_lawOf_270 post mc ms x7 x8 x9 x10 x11 x12 x13 x14 x18 z0 z x6 kc ks := fun z hz => br_t hz (br_c (fun g => T2 _ (by rw [e7, if_pos g])) (fun g => T2 _ (by rw [e7, if_neg g])))
  exact br_c (fun g => T1 _ (by rw [e6, if_pos g])) (fun g => T1 _ (by rw [e6, if_neg g]))
def mt_cp (k e : Int32) : Int32 := if (k - 10) / 2 = e then (if k - k / 2 * 2 = e then 30 else 32) else 31
def mt_due (k e : Int32) : Int32 := if k = 0 ∨ k = 1 then (if k = e then 30 else 32) else if 10 ≤ k then mt_cp k e else 31
theorem mt_coupled {post : Int32 → Prop} {k e : Int32} (H : post (mt_cp k e)) : wpL_coupled post () k e := by
  unfold mt_cp at H
  refine ⟨by decide, nm_e ⟨by decide, nm_e ?_⟩⟩
  by_cases g : (k - 10) / 2 = e
  · rw [if_pos g] at H
    by_cases g2 : k - k / 2 * 2 = e
    · rw [if_pos g2] at H
      exact br_t g (br_t g2 H)
    · rw [if_neg g2] at H
      exact br_t g (br_f g2 H)
  · rw [if_neg g] at H
    exact br_f g H
theorem mt_186 (H : ∀ d, (x14 = 0 → d = 0) → (¬ x14 = 0 → d = mt_due x2 x15) → wL_lawOf_256 post mc ms x6 x7 x8 x9 x10 x11 x12 x13 x14 x18 d kc ks) :
    wL_lawOf_186 post mc ms x2 x6 x7 x8 x9 x10 x11 x12 x13 x14 x15 x18 kc ks := by
  have S : (x2 = 0 ∨ x2 = 1) → wL_lawOf_202 post mc ms x2 x6 x7 x8 x9 x10 x11 x12 x13 x14 x15 x18 1 kc ks := by
    intro hs
    refine br_c (fun g => H _ (fun _ => rfl) (fun z => absurd g z)) (fun g => br_f (by decide) (br_c (fun g2 => br_f (by decide) ?_) (fun g2 => ?_)))
    · exact H _ (fun z => absurd z g) (fun _ => by unfold mt_due; rw [if_pos hs, if_pos g2])
    · exact H _ (fun z => absurd z g) (fun _ => by unfold mt_due; rw [if_pos hs, if_neg g2])
  refine br_c (fun g => S (Or.inl g)) (fun g0 => br_c (fun g => S (Or.inr g)) (fun g1 => ?_))
  have hs : ¬ (x2 = 0 ∨ x2 = 1) := fun z => z.elim g0 g1
  refine br_c (fun g => H _ (fun _ => rfl) (fun z => absurd g z)) (fun g => br_t rfl (br_t rfl (br_c (fun g2 => mt_coupled ?_) (fun g2 => ?_))))
  · exact H _ (fun z => absurd z g) (fun _ => by unfold mt_due; rw [if_neg hs, if_pos g2])
  · exact H _ (fun z => absurd z g) (fun _ => by unfold mt_due; rw [if_neg hs, if_neg g2])
theorem mt_154 {z0 : Int32} (hV : x16 = 0 ↔ ¬ (¬ x3 < 0 ∧ ¬ 4 < x3)) (hA : z0 = 0 ↔ ¬ (¬ x4 < 0 ∧ ¬ 4 < x4 ∧ ¬ x4 = x3))
    (H1 : mt_F x2 x3 x4 → wL_lawOf_186 post mc ms x2 x6 x7 x8 x9 x10 x11 x12 x13 x14 x15 1 kc ks) (H0 : ¬ mt_F x2 x3 x4 → wL_lawOf_186 post mc ms x2 x6 x7 x8 x9 x10 x11 x12 x13 x14 x15 0 kc ks) :
    wL_lawOf_154 post mc ms x2 x6 x7 x8 x9 x10 x11 x12 x13 x14 x15 x16 z0 kc ks := by
  refine br_c (fun g => H0 fun z => z.1 g) (fun g1 => ?_)
  refine br_c (fun g => H0 fun z => z.2.1 g) (fun g2 => ?_)
  refine br_c (fun g => H0 fun z => hV.mp g ⟨z.2.2.1, z.2.2.2.1⟩) (fun g3 => ?_)
  have v : ¬ x3 < 0 ∧ ¬ 4 < x3 := Classical.not_not.mp fun z => g3 (hV.mpr z)
  refine br_c (fun g => H1 ⟨g1, g2, v.1, v.2, Or.inl g⟩) (fun g4 => ?_)
  refine br_c (fun g => H0 fun z => hA.mp g (z.2.2.2.2.resolve_left g4)) (fun g5 => ?_)
  have a : ¬ x4 < 0 ∧ ¬ 4 < x4 ∧ ¬ x4 = x3 := Classical.not_not.mp fun z => g5 (hA.mpr z)
  exact H1 ⟨g1, g2, v.1, v.2, Or.inr a⟩
theorem mt_i0 {P : Prop} (h : ¬ P) : (0 : Int32) = 0 ↔ ¬ P := ⟨fun _ => h, fun _ => rfl⟩
theorem mt_i1 {P : Prop} (h : P) : (1 : Int32) = 0 ↔ ¬ P := ⟨fun z => absurd z (by decide), fun z => absurd h z⟩
theorem mt_130 {z0 : Int32} (hV : z0 = 0 ↔ ¬ (¬ x3 < 0 ∧ ¬ 4 < x3))
    (H1 : mt_F x2 x3 x4 → wL_lawOf_186 post mc ms x2 x6 x7 x8 x9 x10 x11 x12 x13 x14 x15 1 kc ks) (H0 : ¬ mt_F x2 x3 x4 → wL_lawOf_186 post mc ms x2 x6 x7 x8 x9 x10 x11 x12 x13 x14 x15 0 kc ks) :
    wL_lawOf_130 post mc ms x2 x3 x4 x6 x7 x8 x9 x10 x11 x12 x13 x14 x15 z0 kc ks := by
  refine br_c (fun g => mt_154 hV (mt_i0 fun z => z.1 g) H1 H0) (fun g1 => ?_)
  refine br_c (fun g => mt_154 hV (mt_i0 fun z => z.2.1 g) H1 H0) (fun g2 => ?_)
  exact br_c (fun g => mt_154 hV (mt_i0 fun z => z.2.2 g) H1 H0) (fun g3 => mt_154 hV (mt_i1 ⟨g1, g2, g3⟩) H1 H0)
theorem mt_109 (ok : mt_ok x6 x7 x8 x10 x11 x12 x13 x14) (h0 : mt_F x2 x3 x4 → x14 = 0 → x9 = 0) (h1 : mt_F x2 x3 x4 → ¬ x14 = 0 → x9 = mt_due x2 (x1 - 2)) (hn : ¬ mt_F x2 x3 x4 → x9 = -1) (H : post 1 ()) :
    wL_lawOf_109 post mc ms x1 x2 x3 x4 x6 x7 x8 x9 x10 x11 x12 x13 x14 kc ks := by
  have H1 : mt_F x2 x3 x4 → wL_lawOf_186 post mc ms x2 x6 x7 x8 x9 x10 x11 x12 x13 x14 (x1 - 2) 1 kc ks := by
    intro g
    refine mt_186 fun d d0 d1 => mt_256 ok (fun z => absurd z (by decide)) (fun _ => ?_) H
    by_cases e : x14 = 0
    · rw [d0 e]
      exact h0 g e
    · rw [d1 e]
      exact h1 g e
  have H0 : ¬ mt_F x2 x3 x4 → wL_lawOf_186 post mc ms x2 x6 x7 x8 x9 x10 x11 x12 x13 x14 (x1 - 2) 0 kc ks := by
    intro g
    exact mt_186 fun d d0 d1 => mt_256 ok (fun _ => hn g) (fun z => absurd rfl z) H
  refine nm_e ?_
  refine br_c (fun g => mt_130 (mt_i0 fun z => z.1 g) H1 H0) (fun g1 => ?_)
  exact br_c (fun g => mt_130 (mt_i0 fun z => z.2 g) H1 H0) (fun g2 => mt_130 (mt_i1 ⟨g1, g2⟩) H1 H0)
end
end
section
/-! ===== march, op, drop; the law ===== -/
section
variable {post : Int32 → St2 → Prop} {c w k b o f : Int32} {a1 a2 a3 : Nat → Int32}
theorem mt_m11 {p : Int32} (h2 : a2 0 = 0) (H : ∀ a1' a2', a2' 0 = 0 → post 0 (1, w, k, b, o, f, a1', a2', a3)) : wX_march_11 post p 0 w k b o f a1 a2 a3 := by
  refine br_t (by decide) ⟨pk_in 0 6 (by decide), fun a1' e1 => ⟨pk_in 0 6 (by decide), fun a2' e2 => ?_⟩⟩
  refine nm_r (e' := 1) (by decide) ?_
  rw [sb_cl0] at e2
  exact H a1' a2' (by rw [e2, pk_us])
theorem mt_march1 {p : Int32} (hp : p = 0 ∨ p = 1) (h2 : a2 0 = 0) (H : ∀ a1' a2', a2' 0 = 0 → post 0 (1, w, k, b, o, f, a1', a2', a3)) : wpX_march post (0, w, k, b, o, f, a1, a2, a3) p :=
  br_c (fun _ => mt_m11 h2 H) (fun g => br_t (hp.resolve_left g) (mt_m11 h2 H))
theorem mt_march0 {p : Int32} (hp : ¬ (p = 0 ∨ p = 1)) (H : post (-1) (c, w, k, b, o, f, a1, a2, a3)) : wpX_march post (c, w, k, b, o, f, a1, a2, a3) p :=
  br_f (fun z => hp (Or.inl z)) (br_f (fun z => hp (Or.inr z)) H)
theorem mt_opBad {p : Int32} (hp : ¬ p < 0 → ¬ 3 < p → c = 0) (H : post (-1) (c, w, k, b, o, f, a1, a2, a3)) : wpX_op post (c, w, k, b, o, f, a1, a2, a3) p :=
  br_c (fun _ => H) (fun g => br_c (fun _ => H) (fun g2 => br_t (hp g g2) H))
theorem mt_opGood {p : Int32} (h0 : ¬ p < 0) (h3 : ¬ 3 < p) (h2 : a2 0 = 0) (H : ∀ a2' a3', a2' 0 = 1 → a3' 0 = p.toInt8.toInt32 → post 1 (1, w, k, b, o, f, a1, a2', a3')) : wpX_op post (1, w, k, b, o, f, a1, a2, a3) p := by
  refine br_f h0 (br_f h3 (br_f (by decide) (nm_r (e' := 0) (by decide) ?_)))
  rw [sb_cl0, h2]
  refine ⟨pk_in 0 6 (by decide), br_t (by decide) ⟨pk_in 0 6 (by decide), pk_in 0 24 (by decide), fun a3' e3 => ⟨pk_in 0 6 (by decide), pk_in 0 6 (by decide), fun a2' e2 => ⟨pk_in 0 6 (by decide), ?_⟩⟩⟩⟩
  rw [mt_ix] at e3
  have t : a2' 0 = 1 := by
    rw [e2, pk_us]
    decide
  rw [t]
  exact H a2' a3' t (by rw [e3, pk_us])
theorem mt_drop0 (H : post (-1) (0, w, k, b, o, f, a1, a2, a3)) : wpX_drop post (0, w, k, b, o, f, a1, a2, a3) := br_t rfl H
theorem mt_c1 : ((1 : Int32) - 1).toNatClampNeg = 0 := by decide
theorem mt_drop1 (h2 : a2 0 = 0) (H : post 0 (0, w, k, b, o, f, a1, a2, a3)) : wpX_drop post (1, w, k, b, o, f, a1, a2, a3) :=
  br_f (by decide) ⟨pk_in 0 6 (by decide), br_t (by rw [mt_c1, h2]; decide) (nm_r (e' := 0) (by decide) H)⟩
theorem mt_drop2 (h2 : a2 0 = 1) (H : ∀ a2', post 1 (1, w, k, b, o, f, a1, a2', a3)) : wpX_drop post (1, w, k, b, o, f, a1, a2, a3) :=
  br_f (by decide) ⟨pk_in 0 6 (by decide), br_f (by rw [mt_c1, h2]; decide) ⟨pk_in 0 6 (by decide), pk_in 0 6 (by decide), nm_e (H _)⟩⟩
end
/-! the numbers -/
theorem mt_n0 : (if mt_qv mt_r0 = 2 then (1 : Int32) else 0) = 1 := by decide +kernel
theorem mt_n1 : ∀ i, i < 14 → (32 : Int32) - mt_sil mt_r0 (nI i) = 0 := by decide +kernel
theorem mt_n2 : (if mt_qv (mt_rR (2 - 2)) = 2 then (1 : Int32) else 0) = 0 := by decide +kernel
theorem mt_n3 : (if mt_qv (mt_rR (3 - 2)) = 2 then (1 : Int32) else 0) = 0 := by decide +kernel
theorem mt_n4 : ∀ i, i < 14 → (32 : Int32) - mt_sil (mt_rR (2 - 2)) (nI i) = mt_due (nI i) (2 - 2) := by decide +kernel
theorem mt_n5 : ∀ i, i < 14 → (32 : Int32) - mt_sil (mt_rR (3 - 2)) (nI i) = mt_due (nI i) (3 - 2) := by decide +kernel
theorem mt_kind {k v a : Int32} (h : mt_F k v a) : ∃ i, i < 14 ∧ k = nI i := by
  rcases pk_ix k (n := 14) (by decide) with g | g | g
  · exact absurd g h.1
  · exact absurd (mt_14.mp g) h.2.1
  · exact g
theorem mt_4 {x : Int32} : nI 4 ≤ x ↔ 3 < x := by
  rw [Int32.lt_iff_toInt_lt, Int32.le_iff_toInt_le]
  have h1 : (nI 4).toInt = 4 := by decide
  have h2 : (3 : Int32).toInt = 3 := by decide
  omega
theorem mt_t8a : ∀ i, i < 4 → (nI i).toInt8.toInt32 = nI i := by decide +kernel
theorem mt_t8 {x : Int32} {i : Nat} (hi : i < 4) (e : x = nI i) : x.toInt8.toInt32 = x := by rw [e]; exact mt_t8a i hi
theorem mt_23a : ∀ i, i < 4 → ¬ nI i < 2 → nI i = 2 ∨ nI i = 3 := by decide +kernel
theorem mt_23 {x : Int32} {i : Nat} (hi : i < 4) (e : x = nI i) (h : ¬ x < 2) : x = 2 ∨ x = 3 := by
  rw [e] at h ⊢
  exact mt_23a i hi h
/-- what foundFrom answers where nothing is read -/
theorem mt_lawN {p2 p3 p4 r9 : Int32} (h : mt_F p2 p3 p4 → r9 = 32 - mt_sil mt_r0 p2) : mt_F p2 p3 p4 → (0 : Int32) = 0 → r9 = 0 := by
  intro g _
  obtain ⟨i, hi, e⟩ := mt_kind g
  rw [h g, e]
  exact mt_n1 i hi
theorem mt_lawOf {post : Int32 → St0 → Prop} {p0 p1 p2 p3 p4 : Int32} (H : post 1 ()) : wpL_lawOf post 4 45 () p0 p1 p2 p3 p4 := by
  refine ⟨by decide, by decide, 3, 36, by decide, by decide, by decide, by decide, by decide, by decide, by decide, by decide, ?_⟩
  by_cases hp : p0 = 0 ∨ p0 = 1
  · refine mt_march1 hp rfl fun a1 a2 h2 => ?_
    have X : ∀ {r6 r7 r8 r9 r10 r11 : Int32} {kc ks : Nat}, wL_lawOf_71 post 4 45 p1 p2 p3 p4 r6 r7 r8 r9 r10 r11 1 kc ks →
        ((p0 = 0 → wL_lawOf_66 post 4 45 p1 p2 p3 p4 r6 r7 r8 r9 r10 r11 kc ks) ∧ (¬ p0 = 0 → ((p0 = 1 → wL_lawOf_66 post 4 45 p1 p2 p3 p4 r6 r7 r8 r9 r10 r11 kc ks) ∧ (¬ p0 = 1 → wL_lawOf_71 post 4 45 p1 p2 p3 p4 r6 r7 r8 r9 r10 r11 0 kc ks)))) :=
      fun T => br_c (fun _ => T) (fun g => br_t (hp.resolve_left g) T)
    by_cases hg : ¬ p1 < 0 ∧ ¬ 3 < p1
    · refine mt_opGood hg.1 hg.2 h2 fun a2 a3 h2 h3 => ?_
      rcases pk_ix p1 (n := 4) (by decide) with g | g | ⟨i, hi, e⟩
      · exact absurd g hg.1
      · exact absurd (mt_4.mp g) hg.2
      · by_cases hr : p1 < 2
        · have hR : mt_Run 1 (-1) a1 a2 a3 mt_r0 := mt_runN (Or.inr ⟨rfl, Or.inr (Or.inr ⟨h2, by rw [h3, mt_t8 hi e]; exact hr⟩)⟩)
          refine mt_sound hR fun k b o f => ?_
          rw [mt_n0]
          refine mt_from hR fun r9 k b o f f1 f0 => ?_
          refine mt_spare1 rfl hR (fun k b o f => ?_) (fun z => absurd mt_fs0 z)
          refine mt_drop2 h2 fun _ => X (br_f (by decide) (br_f hg.1 (br_f hg.2 (br_f (by decide) (br_t hr (mt_109 ?_ (mt_lawN f1) (fun _ z => absurd rfl z) f0 H))))))
          exact ⟨by decide, by decide, by decide, by decide, by decide, by decide⟩
        · have E : p1 = 2 ∨ p1 = 3 := mt_23 hi e hr
          have hR : mt_Run 1 (-1) a1 a2 a3 (mt_rR (p1 - 2)) := mt_runR rfl (by decide) h2 (by rw [h3, mt_t8 hi e]) hr
          refine mt_sound hR fun k b o f => ?_
          have n : (if mt_qv (mt_rR (p1 - 2)) = 2 then (1 : Int32) else 0) = 0 := by
            rcases E with E | E <;> rw [E]
            · exact mt_n2
            · exact mt_n3
          rw [n]
          refine mt_from hR fun r9 k b o f f1 f0 => ?_
          have D : mt_F p2 p3 p4 → ¬ (1 : Int32) = 0 → r9 = mt_due p2 (p1 - 2) := by
            intro g _
            obtain ⟨j, hj, ej⟩ := mt_kind g
            rw [f1 g, ej]
            rcases E with E | E <;> rw [E]
            · exact mt_n4 j hj
            · exact mt_n5 j hj
          refine mt_spare1 rfl hR (fun k b o f => ?_) (fun _ k b o f => ?_)
          · refine mt_drop2 h2 fun _ => X (br_f (by decide) (br_f hg.1 (br_f hg.2 (br_f (by decide) (br_f hr (mt_109 ?_ (fun _ z => absurd z (by decide)) D f0 H))))))
            exact ⟨by decide, by decide, by decide, by decide, by decide, by decide⟩
          · refine mt_drop2 h2 fun _ => X (br_f (by decide) (br_f hg.1 (br_f hg.2 (br_f (by decide) (br_f hr (mt_109 ?_ (fun _ z => absurd z (by decide)) D f0 H))))))
            exact ⟨by decide, by decide, by decide, by decide, by decide, by decide⟩
    · refine mt_opBad (fun z z' => absurd ⟨z, z'⟩ hg) ?_
      have hR : mt_Run 1 (-1) a1 a2 (fun _ => 0) mt_r0 := mt_runN (Or.inr ⟨rfl, Or.inr (Or.inl h2)⟩)
      refine mt_sound hR fun k b o f => ?_
      rw [mt_n0]
      refine mt_from hR fun r9 k b o f f1 f0 => ?_
      refine mt_spare1 rfl hR (fun k b o f => ?_) (fun z => absurd mt_fs0 z)
      have Y : wL_lawOf_91 post 4 45 p1 p2 p3 p4 0 (-1) 1 r9 1 0 1 (1 + 3) (9 + 36) := by
        refine br_t rfl (mt_109 ?_ (mt_lawN f1) (fun _ z => absurd rfl z) f0 H)
        exact ⟨by decide, by decide, by decide, by decide, by decide, by decide⟩
      refine mt_drop1 h2 (X (br_f (by decide) (br_c (fun _ => Y) (fun g => br_t (Classical.not_not.mp fun z => hg ⟨g, z⟩) Y))))
  · refine mt_march0 hp ?_
    refine mt_opBad (fun _ _ => rfl) ?_
    have hR : mt_Run 0 (-1) (fun _ => 0) (fun _ => 0) (fun _ => 0) mt_r0 := mt_runN (Or.inl rfl)
    refine mt_sound hR fun k b o f => ?_
    rw [mt_n0]
    refine mt_from hR fun r9 k b o f f1 f0 => ?_
    refine mt_spare0 rfl hR fun k b o f => ?_
    refine mt_drop0 (br_f (fun z => hp (Or.inl z)) (br_f (fun z => hp (Or.inr z)) ?_))
    refine br_t rfl (br_t rfl (mt_109 ?_ (mt_lawN f1) (fun _ z => absurd rfl z) f0 H))
    exact ⟨by decide, by decide, by decide, by decide, by decide, by decide⟩
theorem mt_cell {post : Int32 → Prop} {L : Nat} {xs : Nat → Int32} {x : Int32} (i : Nat) (hx : x = nI i) (hL : L ≤ 5) (hi : i < 5) (H : ∀ r, post r) : wpL_cellAt post L xs () x :=
  pk_le L i (fun _ => H _) (fun g => ⟨pk_in i L g hx, H _⟩) rfl hx
theorem i_vc (xs : Nat → Int32) (L : Nat) (hL : L ≤ 5) : wpL_law (fun r => r = 1) L xs :=
  mt_cell 0 rfl hL (by decide) fun _ => mt_cell 1 rfl hL (by decide) fun _ => mt_cell 2 rfl hL (by decide) fun _ => mt_cell 3 rfl hL (by decide) fun _ => mt_cell 4 rfl hL (by decide) fun _ =>
    ⟨4, 45, by decide, by decide, mt_lawOf rfl⟩
end
