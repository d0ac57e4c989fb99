section
section
variable {sz ck gd ls st fu pc dp : Int32} {a1 a2 a3 a4 a5 a6 a7 a8 a9 : Nat → Int32}
/-- the third instruction and what it costs -/
def fg_O (o : Int32) (c : Nat) : Prop := (o = 3 ∧ c = 1) ∨ (o = 4 ∧ c = 1) ∨ (o = 5 ∧ c = 3)
/-- the program: push, push, o, stop -/
def fg_P (a1 : Nat → Int32) (o : Int32) : Prop := a1 0 = 0 ∧ a1 1 = 0 ∧ a1 2 = o ∧ a1 3 = 13
/-- what the third instruction makes of x and y -/
def fg_v (o x y : Int32) : Int32 := if o = 3 then x + y else if o = 4 then x - y else x * y
theorem fg_v3 (x y : Int32) : fg_v 3 x y = x + y := if_pos rfl
theorem fg_v4 (x y : Int32) : fg_v 4 x y = x - y := by
  unfold fg_v
  rw [if_neg (by decide), if_pos rfl]
theorem fg_v5 (x y : Int32) : fg_v 5 x y = x * y := by
  unfold fg_v
  rw [if_neg (by decide), if_neg (by decide)]
theorem fg_in {x : Int32} {n : Nat} (h : 0 ≤ x.toInt ∧ x.toInt < n) : vp_in x n := vp_in_iff.mpr h
theorem fg_emit {post : Int32 → St2 → Prop} {o c : Int32} (sz' : Int32) (k : Nat) (hs : sz + 1 = sz') (hk : sz.toNatClampNeg = k) (hl : sz < 24) (hi : vp_in sz 24) (h0 : ¬ o < 0) (h1 : o ≤ 14)
    (H : ∀ r, post r (sz', 0, gd, ls, 0, 0, pc, dp, upd a1 k o, upd a2 k c, a3, a4, a5, a6, a7, a8, a9)) :
    wpX_emit post (sz, ck, gd, ls, st, fu, pc, dp, a1, a2, a3, a4, a5, a6, a7, a8, a9) o c := by
  subst hs hk
  exact br_f h0 (br_t h1 (br_t hl ⟨hi, nm_e ⟨hi, nm_e (nm_e (H _))⟩⟩))
/-! what instructions do -/
theorem fg_growth0 {P : Int32 → Prop} (H : P 1) : wpX_growth P () 0 := br_f (by decide) (br_f (by decide) (br_t rfl H))
theorem fg_growthA {o : Int32} {c : Nat} (ho : fg_O o c) {P : Int32 → Prop} (H : P (-1)) : wpX_growth P () o := by
  rcases ho with ⟨rfl, _⟩ | ⟨rfl, _⟩ | ⟨rfl, _⟩
  · exact br_f (by decide) (br_f (by decide) (br_f (by decide) (br_f (by decide) (br_f (by decide) (br_t rfl H)))))
  · exact br_f (by decide) (br_f (by decide) (br_f (by decide) (br_f (by decide) (br_f (by decide) (br_f (by decide) (br_t rfl H))))))
  · exact br_f (by decide) (br_f (by decide) (br_f (by decide) (br_f (by decide) (br_f (by decide) (br_f (by decide) (br_f (by decide) (br_t rfl H)))))))
theorem fg_growthS {P : Int32 → Prop} (H : P 0) : wpX_growth P () 13 := br_f (by decide) (br_t (by decide) H)
theorem fg_uses0 {P : Int32 → Prop} (H : P 0) : wpX_uses P () 0 := br_t (by decide) H
theorem fg_usesA {o : Int32} {c : Nat} (ho : fg_O o c) {P : Int32 → Prop} (H : P 2) : wpX_uses P () o := by
  rcases ho with ⟨rfl, _⟩ | ⟨rfl, _⟩ | ⟨rfl, _⟩
  · exact br_f (by decide) (br_f (by decide) (br_f (by decide) (br_f (by decide) (br_t rfl H))))
  · exact br_f (by decide) (br_f (by decide) (br_f (by decide) (br_f (by decide) (br_f (by decide) (br_t rfl H)))))
  · exact br_f (by decide) (br_f (by decide) (br_f (by decide) (br_f (by decide) (br_f (by decide) (br_f (by decide) (br_t rfl H))))))
theorem fg_usesS {P : Int32 → Prop} (H : P 0) : wpX_uses P () 13 := br_f (by decide) (br_t (by decide) H)
theorem fg_jumps0 {P : Int32 → Prop} (H : P 0) : wpX_jumps P () 0 := br_t (by decide) H
theorem fg_jumpsA {o : Int32} {c : Nat} (ho : fg_O o c) {P : Int32 → Prop} (H : P 0) : wpX_jumps P () o := by
  rcases ho with ⟨rfl, _⟩ | ⟨rfl, _⟩ | ⟨rfl, _⟩
  · exact br_t (by decide) H
  · exact br_t (by decide) H
  · exact br_t (by decide) H
theorem fg_jumpsS {P : Int32 → Prop} (H : P 0) : wpX_jumps P () 13 := br_f (by decide) (br_t (by decide) H)
/-- the cost of an instruction that is neither 5 nor 14 -/
theorem fg_cost1 {P : Int32 → Prop} {p o : Int32} (hi : vp_in p 24) (ho : a1 p.toNatClampNeg = o) (h5 : ¬ o = 5) (h14 : ¬ o = 14) (H : P 1) :
    wpX_costOf P (sz, ck, gd, ls, st, fu, pc, dp, a1, a2, a3, a4, a5, a6, a7, a8, a9) p := by
  subst ho
  exact And.intro hi (br_f h5 ⟨hi, br_f h14 H⟩)
theorem fg_costA {P : Int32 → Prop} {p o : Int32} {c : Nat} (hO : fg_O o c) (hi : vp_in p 24) (ho : a1 p.toNatClampNeg = o) (H : P (nI c)) :
    wpX_costOf P (sz, ck, gd, ls, st, fu, pc, dp, a1, a2, a3, a4, a5, a6, a7, a8, a9) p := by
  rcases hO with ⟨e, rfl⟩ | ⟨e, rfl⟩ | ⟨e, rfl⟩
  · exact fg_cost1 hi (ho.trans e) (by decide) (by decide) H
  · exact fg_cost1 hi (ho.trans e) (by decide) (by decide) H
  · exact And.intro hi (br_t (ho.trans e) H)
/-! the check's steps -/
theorem fg_come {post : St2 → Prop} {pI h : Int32} (p l : Nat) (ls' : Int32) (h0 : ¬ pI < 0) (h1 : pI < sz) (hi : vp_in pI 24) (hp : pI.toNatClampNeg = p) (hn : ¬ 0 ≤ a3 p) (hl : vp_in ls 24) (hl' : ls.toNatClampNeg = l) (hs : ls + 1 = ls')
    (H : post (sz, ck, gd, ls', st, fu, pc, dp, a1, a2, upd a3 p h, a4, a5, a6, upd a7 l pI, a8, a9)) :
    wpX_comeTo post (sz, ck, gd, ls, st, fu, pc, dp, a1, a2, a3, a4, a5, a6, a7, a8, a9) pI h := by
  subst hp hl' hs
  exact br_f h0 (br_t h1 ⟨hi, br_f hn ⟨hi, nm_e ⟨hl, nm_e (nm_e H)⟩⟩⟩)
/-- an instruction that neither jumps nor stops: the next one is new -/
theorem fg_follow {post : St2 → Prop} {pI o g u h : Int32} (p l : Nat) (ls' pI' h' : Int32) (hi : vp_in pI 24) (ho : a1 pI.toNatClampNeg = o) (hh : a3 pI.toNatClampNeg = h)
    (hg : ∀ P : Int32 → Prop, P g → wpX_growth P () o) (hu : ∀ P : Int32 → Prop, P u → wpX_uses P () o) (hj : ∀ P : Int32 → Prop, P 0 → wpX_jumps P () o) (e1 : pI + 1 = pI') (e2 : h + g = h')
    (c1 : ¬ h < u) (c2 : h' ≤ 8) (c13 : ¬ o = 13) (c8 : ¬ o = 8) (h0 : ¬ pI' < 0) (h1 : pI' < sz) (hi' : vp_in pI' 24) (hp : pI'.toNatClampNeg = p) (hn : ¬ 0 ≤ a3 p) (hl : vp_in ls 24) (hl' : ls.toNatClampNeg = l) (hs : ls + 1 = ls')
    (H : post (sz, ck, gd, ls', st, fu, pc, dp, a1, a2, upd a3 p h', a4, a5, a6, upd a7 l pI', a8, a9)) :
    wpX_follow post (sz, ck, gd, ls, st, fu, pc, dp, a1, a2, a3, a4, a5, a6, a7, a8, a9) pI := by
  subst e1 e2
  refine And.intro hi (nm_r ho ⟨hi, nm_r hh (hg _ (nm_e (hu _ (br_f c1 (br_t c2 (br_f c13 (hj _ (br_t rfl ?_))))))))⟩)
  exact br_f c8 (fg_come p l ls' h0 h1 hi' hp hn hl hl' hs (br_f c8 (hj _ (br_t rfl H))))
theorem fg_followS {post : St2 → Prop} {pI h : Int32} (hi : vp_in pI 24) (ho : a1 pI.toNatClampNeg = 13) (hh : a3 pI.toNatClampNeg = h) (c1 : ¬ h < 0) (c2 : h + 0 ≤ 8)
    (H : post (sz, ck, gd, ls, st, fu, pc, dp, a1, a2, a3, a4, a5, a6, a7, a8, a9)) :
    wpX_follow post (sz, ck, gd, ls, st, fu, pc, dp, a1, a2, a3, a4, a5, a6, a7, a8, a9) pI :=
  And.intro hi (nm_r ho ⟨hi, nm_r hh (fg_growthS (nm_e (fg_usesS (br_f c1 (br_t c2 (br_t rfl H))))))⟩)
/-! the machine's steps -/
theorem fg_perf0 {post : St2 → Prop} {x : Int32} (d : Nat) (pc' dp' : Int32) (hi : vp_in pc 24) (ho : a1 pc.toNatClampNeg = 0) (hx : a2 pc.toNatClampNeg = x) (hd : vp_in dp 9) (hd' : dp.toNatClampNeg = d) (e1 : pc + 1 = pc') (e2 : dp + 1 = dp')
    (H : post (sz, ck, gd, ls, st, fu, pc', dp', a1, a2, a3, a4, a5, a6, a7, upd a8 d x, a9)) :
    wpX_perform post (sz, ck, gd, ls, st, fu, pc, dp, a1, a2, a3, a4, a5, a6, a7, a8, a9) := by
  subst e1 e2 hd' hx
  refine And.intro hi (nm_r ho (nm_e (br_f (by decide) (br_f (by decide) (br_t rfl ⟨hi, ?_⟩)))))
  exact And.intro hd (nm_e (nm_e (br_f (by decide) H)))
theorem fg_arith {post : St2 → Prop} {o x y : Int32} {c : Nat} (hO : fg_O o c) (hx : a8 0 = x) (hy : a8 1 = y)
    (H : post (sz, ck, gd, ls, st, fu, pc, 1, a1, a2, a3, a4, a5, a6, a7, upd a8 0 (fg_v o x y), a9)) :
    wpX_arithmetic post (sz, ck, gd, ls, st, fu, pc, 2, a1, a2, a3, a4, a5, a6, a7, a8, a9) o := by
  have i0 : vp_in ((2 : Int32) - 2) 9 := fg_in (by decide)
  have i1 : vp_in ((2 : Int32) - 1) 9 := fg_in (by decide)
  have i2 : vp_in ((1 : Int32) - 1) 9 := fg_in (by decide)
  have hx' : a8 ((2 : Int32) - 2).toNatClampNeg = x := hx
  have hy' : a8 ((2 : Int32) - 1).toNatClampNeg = y := hy
  have e1 : (2 : Int32) - 1 = 1 := by decide
  have eu : ∀ w, upd a8 ((1 : Int32) - 1).toNatClampNeg w = upd a8 0 w := fun w => rfl
  rcases hO with ⟨rfl, _⟩ | ⟨rfl, _⟩ | ⟨rfl, _⟩
  · rw [fg_v3] at H
    exact And.intro i0 (nm_r hx' ⟨i1, nm_r hy' (nm_r e1 (br_t rfl ⟨i2, nm_r (eu _) H⟩))⟩)
  · rw [fg_v4] at H
    exact And.intro i0 (nm_r hx' ⟨i1, nm_r hy' (nm_r e1 (br_f (by decide) (br_t rfl ⟨i2, nm_r (eu _) H⟩)))⟩)
  · rw [fg_v5] at H
    exact And.intro i0 (nm_r hx' ⟨i1, nm_r hy' (nm_r e1 (br_f (by decide) (br_f (by decide) ⟨i2, nm_r (eu _) H⟩)))⟩)
theorem fg_perfA {post : St2 → Prop} {o x y : Int32} {c : Nat} (hO : fg_O o c) (ho : a1 2 = o) (hx : a8 0 = x) (hy : a8 1 = y)
    (H : post (sz, ck, gd, ls, st, fu, 3, 1, a1, a2, a3, a4, a5, a6, a7, upd a8 0 (fg_v o x y), a9)) :
    wpX_perform post (sz, ck, gd, ls, st, fu, 2, 2, a1, a2, a3, a4, a5, a6, a7, a8, a9) := by
  have i0 : vp_in (2 : Int32) 24 := fg_in (by decide)
  have ho' : a1 (2 : Int32).toNatClampNeg = o := ho
  have e1 : (2 : Int32) + 1 = 3 := by decide
  have hO' := hO
  rcases hO with ⟨rfl, _⟩ | ⟨rfl, _⟩ | ⟨rfl, _⟩
  · exact And.intro i0 (nm_r ho' (nm_r e1 (br_f (by decide) (br_f (by decide) (br_f (by decide) (br_f (by decide) (br_f (by decide) (br_t rfl (fg_arith hO' hx hy (br_f (by decide) H))))))))))
  · exact And.intro i0 (nm_r ho' (nm_r e1 (br_f (by decide) (br_f (by decide) (br_f (by decide) (br_f (by decide) (br_f (by decide) (br_f (by decide) (br_t rfl (fg_arith hO' hx hy (br_f (by decide) H)))))))))))
  · exact And.intro i0 (nm_r ho' (nm_r e1 (br_f (by decide) (br_f (by decide) (br_f (by decide) (br_f (by decide) (br_f (by decide) (br_f (by decide) (br_f (by decide) (br_t rfl (fg_arith hO' hx hy (br_f (by decide) H))))))))))))
theorem fg_perfS {post : St2 → Prop} (hi : vp_in pc 24) (ho : a1 pc.toNatClampNeg = 13)
    (H : post (sz, ck, gd, ls, 1, fu, pc, dp, a1, a2, a3, a4, a5, a6, a7, a8, a9)) :
    wpX_perform post (sz, ck, gd, ls, st, fu, pc, dp, a1, a2, a3, a4, a5, a6, a7, a8, a9) :=
  And.intro hi (nm_r ho (nm_e (br_f (by decide) (br_t (by decide) (br_t rfl H)))))
end
end
section
section
variable {sz ck gd ls st fu pc dp : Int32} {a1 a2 a3 a4 a5 a6 a7 a8 a9 : Nat → Int32}
/-- the check's first loop: no instruction reached, no leader but the first -/
theorem fg_36 {post : St2 → Prop}
    (H : ∀ b3 b4 : Nat → Int32, (∀ j, j < 24 → b3 j = -1) → (∀ j, 0 < j → j < 24 → b4 j = 0) → ∀ n, wX_check_36 post sz ck gd ls st fu pc dp (n + 1) (nI 24) a1 a2 b3 b4 a5 a6 a7 a8 a9) :
    ∃ n, wX_check_36 post sz ck gd ls st fu pc dp n 0 a1 a2 a3 a4 a5 a6 a7 a8 a9 := by
  refine pk_loop (fun n i (s : (Nat → Int32) × (Nat → Int32)) => wX_check_36 post sz ck gd ls st fu pc dp n (nI i) a1 a2 s.1 s.2 a5 a6 a7 a8 a9) (fun i s => (∀ j, j < i → s.1 j = -1) ∧ (∀ j, 0 < j → j < i → s.2 j = 0)) 24 0 (a3, a4) (by omega) ⟨fun j hj => absurd hj (by omega), fun j _ hj => absurd hj (by omega)⟩ (fun n s h => H s.1 s.2 h.1 h.2 n) ?_
  intro n i s hi h hw
  obtain ⟨s1, s2⟩ := s
  obtain ⟨h1, h2⟩ := h
  have ei : (nI i).toNatClampNeg = i := nI_clamp (by omega)
  have k1 : ∀ j, j < i + 1 → upd s1 i (-1) j = -1 := by
    intro j hj
    by_cases e : j = i
    · rw [e, pk_us]
    · rw [pk_un e]
      exact h1 j (by omega)
  have k2 : ∀ w : Int32, (i ≠ 0 → w = 0) → ∀ j, 0 < j → j < i + 1 → upd s2 i w j = 0 := by
    intro w hw j h0 hj
    by_cases e : j = i
    · rw [e, pk_us]
      exact hw (by omega)
    · rw [pk_un e]
      exact h2 j h0 (by omega)
  have t1 : wX_check_36 post sz ck gd ls st fu pc dp n (nI (i + 1)) a1 a2 (upd s1 i (-1)) (upd s2 i 0) a5 a6 a7 a8 a9 := hw (upd s1 i (-1), upd s2 i 0) ⟨k1, k2 0 (fun _ => rfl)⟩
  have t2 : i = 0 → wX_check_36 post sz ck gd ls st fu pc dp n (nI (i + 1)) a1 a2 (upd s1 i (-1)) (upd s2 i 1) a5 a6 a7 a8 a9 := fun z => hw (upd s1 i (-1), upd s2 i 1) ⟨k1, k2 1 (fun q => absurd z q)⟩
  have e3 : upd s1 (nI i).toNatClampNeg (-1) = upd s1 i (-1) := by rw [ei]
  have e4 : ∀ w, upd s2 (nI i).toNatClampNeg w = upd s2 i w := fun w => by rw [ei]
  exact pk_le 24 i (fun z => absurd z (by omega)) (fun _ => ⟨pk_in i 24 hi, nm_r e3 (pk_eq i 0 (fun z => ⟨pk_in i 24 hi, nm_r (e4 1) (nm_r (nI_1 i) (t2 z))⟩) (fun z => ⟨pk_in i 24 hi, nm_r (e4 0) (nm_r (nI_1 i) t1)⟩))⟩)
/-- makeBlocks at the stop -/
theorem fg_mbS {post : St2 → Prop} {p : Int32} (n q : Nat) (p' : Int32) (h0 : ¬ p < 0) (hi : vp_in p 24) (hq : p.toNatClampNeg = q) (e : p + (-1) = p') (ho : a1 q = 13)
    (H : wX_makeBlocks_7 post sz ck gd ls st fu pc dp n p' a1 a2 a3 a4 (upd a5 q 1) (upd a6 q p) a7 a8 a9) :
    wX_makeBlocks_7 post sz ck gd ls st fu pc dp (n + 1) p a1 a2 a3 a4 a5 a6 a7 a8 a9 := by
  subst hq e
  refine br_f h0 (fg_cost1 hi ho (by decide) (by decide) ⟨hi, ?_⟩)
  rw [ho]
  refine fg_jumpsS (br_t rfl ⟨hi, br_t rfl ?_⟩)
  exact br_f (by decide) (And.intro hi (nm_e (br_f (by decide) ⟨hi, nm_e (nm_e H)⟩)))
/-- makeBlocks at an instruction that goes on to the next one -/
theorem fg_mbN {post : St2 → Prop} {p o c : Int32} (n q q1 : Nat) (p' z w : Int32) (h0 : ¬ p < 0) (hi : vp_in p 24) (hi1 : vp_in (p + 1) 24) (hq : p.toNatClampNeg = q) (hq1 : (p + 1).toNatClampNeg = q1) (e : p + (-1) = p') (ho : a1 q = o)
    (hc : ∀ P : Int32 → Prop, P c → wpX_costOf P (sz, ck, gd, ls, st, fu, pc, dp, a1, a2, a3, a4, a5, a6, a7, a8, a9) p) (hj : ∀ P : Int32 → Prop, P 0 → wpX_jumps P () o) (c13 : ¬ o = 13) (cl : ¬ p = sz - 1) (hL : a4 q1 = 0) (hz : c + a5 q1 = z) (hw : a6 q1 = w)
    (H : wX_makeBlocks_7 post sz ck gd ls st fu pc dp n p' a1 a2 a3 a4 (upd a5 q z) (upd a6 q w) a7 a8 a9) :
    wX_makeBlocks_7 post sz ck gd ls st fu pc dp (n + 1) p a1 a2 a3 a4 a5 a6 a7 a8 a9 := by
  subst hq hq1 e ho hz hw
  refine br_f h0 (hc _ ⟨hi, hj _ (br_t rfl ⟨hi, br_f c13 (br_f cl ⟨hi1, br_t hL ?_⟩)⟩)⟩)
  exact br_t rfl ⟨hi1, And.intro hi (nm_e (br_t rfl ⟨hi1, hi, nm_e (nm_e H)⟩))⟩
theorem fg_mb {post : St2 → Prop} {o : Int32} {c : Nat} (hO : fg_O o c) (hP : fg_P a1 o) (h4 : ∀ j, 0 < j → j < 24 → a4 j = 0)
    (H : ∀ b5 b6 : Nat → Int32, b5 0 = nI (3 + c) → b6 0 = 3 → post (4, ck, gd, ls, st, fu, pc, dp, a1, a2, a3, a4, b5, b6, a7, a8, a9)) :
    wpX_makeBlocks post (4, ck, gd, ls, st, fu, pc, dp, a1, a2, a3, a4, a5, a6, a7, a8, a9) := by
  obtain ⟨p0, p1, p2, p3⟩ := hP
  have o13 : ¬ o = 13 := by rcases hO with ⟨rfl, _⟩ | ⟨rfl, _⟩ | ⟨rfl, _⟩ <;> decide
  have hend : ∀ n, wX_makeBlocks_7 post 4 ck gd ls st fu pc dp (n + 1) (-1) a1 a2 a3 a4 (upd (upd (upd (upd a5 3 1) 2 (nI (c + 1))) 1 (nI (c + 2))) 0 (nI (3 + c))) (upd (upd (upd (upd a6 3 3) 2 3) 1 3) 0 3) a7 a8 a9 :=
    fun n => br_t (by decide) (H _ _ pk_us pk_us)
  have e2 : nI c + (1 : Int32) = nI (c + 1) := nI_1 c
  have e1 : (1 : Int32) + nI (c + 1) = nI (c + 2) := by
    rw [Int32.add_comm]
    exact nI_1 (c + 1)
  have e0 : (1 : Int32) + nI (c + 2) = nI (3 + c) := by
    rw [Int32.add_comm, show 3 + c = c + 2 + 1 by omega]
    exact nI_1 (c + 2)
  refine nm_r (show (4 : Int32) - 1 = 3 by decide) ⟨5, ?_⟩
  refine fg_mbS 4 3 2 (by decide) (fg_in (by decide)) (by decide) (by decide) p3 ?_
  refine fg_mbN (c := nI c) 3 2 3 1 (nI (c + 1)) 3 (by decide) (fg_in (by decide)) (fg_in (by decide)) (by decide) (by decide) (by decide) p2 (fun P h => fg_costA hO (fg_in (by decide)) p2 h) (fun P h => fg_jumpsA hO h) o13 (by decide) (h4 3 (by decide) (by decide)) ?_ pk_us ?_
  · rw [pk_us]
    exact e2
  refine fg_mbN (c := 1) 2 1 2 0 (nI (c + 2)) 3 (by decide) (fg_in (by decide)) (fg_in (by decide)) (by decide) (by decide) (by decide) p1 (fun P h => fg_cost1 (fg_in (by decide)) p1 (by decide) (by decide) h) (fun P h => fg_jumps0 h) (by decide) (by decide) (h4 2 (by decide) (by decide)) ?_ pk_us ?_
  · rw [pk_us]
    exact e1
  refine fg_mbN (c := 1) 1 0 1 (-1) (nI (3 + c)) 3 (by decide) (fg_in (by decide)) (fg_in (by decide)) (by decide) (by decide) (by decide) p0 (fun P h => fg_cost1 (fg_in (by decide)) p0 (by decide) (by decide) h) (fun P h => fg_jumps0 h) (by decide) (by decide) (h4 1 (by decide) (by decide)) ?_ pk_us ?_
  · rw [pk_us]
    exact e0
  exact hend 0
/-- the check's list loop over the four instructions -/
theorem fg_85 {post : St2 → Prop} {o : Int32} {c : Nat} (hO : fg_O o c) (hP : fg_P a1 o) (h3 : ∀ j, j < 24 → a3 j = -1)
    (H : ∀ b3 b7 : Nat → Int32, wX_check_116 post 4 ck 1 4 st fu pc dp a1 a2 b3 a4 a5 a6 b7 a8 a9) :
    wpX_comeTo (fun u => match u with | (f0, f1, f2, f3, f4, f5, f6, f7, b1, b2, b3, b4, b5, b6, b7, b8, b9) => ∃ n, wX_check_85 post n 0 f0 f1 f2 f3 f4 f5 f6 f7 b1 b2 b3 b4 b5 b6 b7 b8 b9) (4, ck, 1, 0, st, fu, pc, dp, a1, a2, a3, a4, a5, a6, a7, a8, a9) 0 0 := by
  obtain ⟨p0, p1, p2, p3⟩ := hP
  have o13 : ¬ o = 13 := by rcases hO with ⟨rfl, _⟩ | ⟨rfl, _⟩ | ⟨rfl, _⟩ <;> decide
  have o8 : ¬ o = 8 := by rcases hO with ⟨rfl, _⟩ | ⟨rfl, _⟩ | ⟨rfl, _⟩ <;> decide
  have nn : ∀ j, j < 24 → ¬ (0 : Int32) ≤ a3 j := fun j hj => by
    rw [h3 j hj]
    decide
  refine fg_come 0 0 1 (by decide) (by decide) (fg_in (by decide)) (by decide) (nn 0 (by decide)) (fg_in (by decide)) (by decide) (by decide) ⟨5, ?_⟩
  refine br_f (by decide) (br_f (by decide) ⟨fg_in (by decide), ?_⟩)
  refine fg_follow (pI := 0) (o := 0) (g := 1) (u := 0) (h := 0) 1 1 2 1 1 (fg_in (by decide)) p0 pk_us (fun P h => fg_growth0 h) (fun P h => fg_uses0 h) (fun P h => fg_jumps0 h) (by decide) (by decide) (by decide) (by decide) (by decide) (by decide) (by decide) (by decide) (fg_in (by decide)) (by decide) ?_ (fg_in (by decide)) (by decide) (by decide) (nm_r (show (0 : Int32) + 1 = 1 by decide) ?_)
  · rw [pk_un (by decide)]
    exact nn 1 (by decide)
  refine br_f (by decide) (br_f (by decide) ⟨fg_in (by decide), ?_⟩)
  refine fg_follow (pI := 1) (o := 0) (g := 1) (u := 0) (h := 1) 2 2 3 2 2 (fg_in (by decide)) p1 pk_us (fun P h => fg_growth0 h) (fun P h => fg_uses0 h) (fun P h => fg_jumps0 h) (by decide) (by decide) (by decide) (by decide) (by decide) (by decide) (by decide) (by decide) (fg_in (by decide)) (by decide) ?_ (fg_in (by decide)) (by decide) (by decide) (nm_r (show (1 : Int32) + 1 = 2 by decide) ?_)
  · rw [pk_un (by decide), pk_un (by decide)]
    exact nn 2 (by decide)
  refine br_f (by decide) (br_f (by decide) ⟨fg_in (by decide), ?_⟩)
  refine fg_follow (pI := 2) (o := o) (g := -1) (u := 2) (h := 2) 3 3 4 3 1 (fg_in (by decide)) p2 pk_us (fun P h => fg_growthA hO h) (fun P h => fg_usesA hO h) (fun P h => fg_jumpsA hO h) (by decide) (by decide) (by decide) (by decide) o13 o8 (by decide) (by decide) (fg_in (by decide)) (by decide) ?_ (fg_in (by decide)) (by decide) (by decide) (nm_r (show (2 : Int32) + 1 = 3 by decide) ?_)
  · rw [pk_un (by decide), pk_un (by decide), pk_un (by decide)]
    exact nn 3 (by decide)
  refine br_f (by decide) (br_f (by decide) ⟨fg_in (by decide), ?_⟩)
  refine fg_followS (pI := 3) (h := 1) (fg_in (by decide)) p3 pk_us (by decide) (by decide) (nm_r (show (3 : Int32) + 1 = 4 by decide) ?_)
  exact br_t (by decide) (H _ _)
theorem fg_check {post : St2 → Prop} {o : Int32} {c : Nat} (hO : fg_O o c) (hP : fg_P a1 o)
    (H : ∀ b3 b4 b5 b6 b7 : Nat → Int32, b5 0 = nI (3 + c) → b6 0 = 3 → post (4, 1, 1, 4, st, fu, pc, dp, a1, a2, b3, b4, b5, b6, b7, a8, a9)) :
    wpX_check post (4, 0, gd, ls, st, fu, pc, dp, a1, a2, a3, a4, a5, a6, a7, a8, a9) :=
  br_t rfl (br_f (by decide) (fg_36 (fun b3 b4 h3 h4 n => br_t (by decide) (br_f (by decide) (fg_85 hO hP h3 (fun c3 c7 => br_f (by decide) (fg_mb hO hP h4 (fun b5 b6 k5 k6 => H c3 b4 b5 b6 c7 k5 k6))))))))
end
end
section
section
variable {sz ck gd ls st fu pc dp : Int32} {a1 a2 a3 a4 a5 a6 a7 a8 a9 : Nat → Int32}
/-- where the machine stands when k of fuel were given -/
def fg_R (x y v : Int32) (c k : Nat) (st fl pc dp : Int32) (b8 : Nat → Int32) : Prop :=
  (k = 0 ∧ st = 2 ∧ fl = nI 0 ∧ pc = 0 ∧ dp = 0) ∨
  (k = 1 ∧ st = 2 ∧ fl = nI 0 ∧ pc = 1 ∧ dp = 1 ∧ b8 0 = x) ∨
  (2 ≤ k ∧ k < 2 + c ∧ st = 2 ∧ fl = nI (k - 2) ∧ pc = 2 ∧ dp = 2 ∧ b8 0 = x ∧ b8 1 = y) ∨
  (k = 2 + c ∧ st = 2 ∧ fl = nI 0 ∧ pc = 3 ∧ dp = 1 ∧ b8 0 = v) ∨
  (3 + c ≤ k ∧ st = 1 ∧ fl = nI (k - (3 + c)) ∧ pc = 3 ∧ dp = 1 ∧ b8 0 = v)
theorem fg_sub {k a b : Nat} {x y : Int32} (hx : x = nI k) (hy : y = nI a) (h : a ≤ k) (e : k - a = b) : x - y = nI b := by
  rw [hx, hy, pk_sub h, e]
theorem fg_crawl {post : St2 → Prop} {o x y : Int32} {c k : Nat} (hO : fg_O o c) (hP : fg_P a1 o) (hx : a2 0 = x) (hy : a2 1 = y) (hk : k < 3 + c)
    (H : ∀ (fl pc dp : Int32) (b8 : Nat → Int32), fg_R x y (fg_v o x y) c k 2 fl pc dp b8 → post (sz, ck, gd, ls, 2, fl, pc, dp, a1, a2, a3, a4, a5, a6, a7, b8, a9)) :
    wpX_crawl post (sz, ck, gd, ls, st, nI k, 0, 0, a1, a2, a3, a4, a5, a6, a7, a8, a9) := by
  obtain ⟨p0, p1, p2, p3⟩ := hP
  have hc3 : c ≤ 3 := by rcases hO with ⟨_, rfl⟩ | ⟨_, rfl⟩ | ⟨_, rfl⟩ <;> decide
  refine ⟨4, br_f (by decide) (fg_cost1 (fg_in (by decide)) p0 (by decide) (by decide) (pk_lt k 1 (fun z => ?_) (fun z0 => ?_)))⟩
  · obtain rfl : k = 0 := by omega
    exact H _ _ _ _ (Or.inl ⟨rfl, rfl, rfl, rfl, rfl⟩)
  refine fg_cost1 (fg_in (by decide)) p0 (by decide) (by decide) (nm_r (fg_sub (b := k - 1) rfl (a := 1) rfl z0 rfl) ?_)
  refine fg_perf0 (x := x) 0 1 1 (fg_in (by decide)) p0 hx (fg_in (by decide)) (by decide) (by decide) (by decide) (nm_r (show (0 : Int32) + 1 = 1 by decide) ?_)
  refine br_f (by decide) (fg_cost1 (fg_in (by decide)) p1 (by decide) (by decide) (pk_lt (k - 1) 1 (fun z => ?_) (fun z1 => ?_)))
  · obtain rfl : k = 1 := by omega
    exact H _ _ _ _ (Or.inr (Or.inl ⟨rfl, rfl, rfl, rfl, rfl, pk_us⟩))
  refine fg_cost1 (fg_in (by decide)) p1 (by decide) (by decide) (nm_r (fg_sub (b := k - 2) rfl (a := 1) rfl z1 (by omega)) ?_)
  refine fg_perf0 (x := y) 1 2 2 (fg_in (by decide)) p1 hy (fg_in (by decide)) (by decide) (by decide) (by decide) (nm_r (show (1 : Int32) + 1 = 2 by decide) ?_)
  have g0 : upd (upd a8 0 x) 1 y 0 = x := by rw [pk_un (by decide), pk_us]
  refine br_f (by decide) (fg_costA hO (fg_in (by decide)) p2 (pk_lt (k - 2) c (fun z => ?_) (fun z2 => ?_)))
  · exact H _ _ _ _ (Or.inr (Or.inr (Or.inl ⟨by omega, by omega, rfl, rfl, rfl, rfl, g0, pk_us⟩)))
  refine fg_costA hO (fg_in (by decide)) p2 (nm_r (fg_sub (b := 0) rfl (a := c) rfl z2 (by omega)) ?_)
  refine fg_perfA hO p2 g0 pk_us (nm_r (show (2 : Int32) + 1 = 3 by decide) ?_)
  refine br_f (by decide) (fg_cost1 (fg_in (by decide)) p3 (by decide) (by decide) (br_t (by decide) ?_))
  exact H _ _ _ _ (Or.inr (Or.inr (Or.inr (Or.inl ⟨by omega, rfl, rfl, rfl, rfl, pk_us⟩))))
theorem fg_block {post : St2 → Prop} {o x y : Int32} {c k : Nat} (hO : fg_O o c) (hP : fg_P a1 o) (hx : a2 0 = x) (hy : a2 1 = y) (h5 : a5 0 = nI (3 + c)) (h6 : a6 0 = 3) (hk : 3 + c ≤ k)
    (H : ∀ (fl pc dp : Int32) (b8 : Nat → Int32), fg_R x y (fg_v o x y) c k 1 fl pc dp b8 → post (sz, ck, gd, ls, 1, fl, pc, dp, a1, a2, a3, a4, a5, a6, a7, b8, a9)) :
    wpX_runBlock post (sz, ck, gd, ls, st, nI k, 0, 0, a1, a2, a3, a4, a5, a6, a7, a8, a9) := by
  obtain ⟨p0, p1, p2, p3⟩ := hP
  have i0 : vp_in (0 : Int32) 24 := fg_in (by decide)
  have h6' : a6 (0 : Int32).toNatClampNeg = 3 := h6
  have h5' : nI k - a5 (0 : Int32).toNatClampNeg = nI (k - (3 + c)) := fg_sub rfl h5 hk rfl
  have g0 : upd (upd a8 0 x) 1 y 0 = x := by rw [pk_un (by decide), pk_us]
  refine And.intro i0 (nm_r h6' (nm_r (show ((3 : Int32) - 0) + 1 = 4 by decide) ⟨i0, nm_r h5' ⟨5, br_f (by decide) ?_⟩⟩))
  refine fg_perf0 (x := x) 0 1 1 i0 p0 hx (fg_in (by decide)) (by decide) (by decide) (by decide) (nm_r (show (0 : Int32) + 1 = 1 by decide) (br_f (by decide) ?_))
  refine fg_perf0 (x := y) 1 2 2 (fg_in (by decide)) p1 hy (fg_in (by decide)) (by decide) (by decide) (by decide) (nm_r (show (1 : Int32) + 1 = 2 by decide) (br_f (by decide) ?_))
  refine fg_perfA hO p2 g0 pk_us (nm_r (show (2 : Int32) + 1 = 3 by decide) (br_f (by decide) ?_))
  refine fg_perfS (fg_in (by decide)) p3 (nm_r (show (3 : Int32) + 1 = 4 by decide) (br_t (by decide) ?_))
  exact H _ _ _ _ (Or.inr (Or.inr (Or.inr (Or.inr ⟨hk, rfl, rfl, rfl, rfl, pk_us⟩))))
theorem fg_carry {post : St2 → Prop} {o x y : Int32} {c k : Nat} (hO : fg_O o c) (hP : fg_P a1 o) (hx : a2 0 = x) (hy : a2 1 = y) (h5 : a5 0 = nI (3 + c)) (h6 : a6 0 = 3) (hk : k ≤ 2000)
    (H : ∀ (st fl pc dp : Int32) (b8 : Nat → Int32), fg_R x y (fg_v o x y) c k st fl pc dp b8 → post (sz, ck, gd, ls, st, fl, pc, dp, a1, a2, a3, a4, a5, a6, a7, b8, a9)) :
    wpX_carryOn post (sz, ck, gd, ls, st, nI k, 0, 0, a1, a2, a3, a4, a5, a6, a7, a8, a9) := by
  have i0 : vp_in (0 : Int32) 24 := fg_in (by decide)
  have hc3 : c ≤ 3 := by rcases hO with ⟨_, rfl⟩ | ⟨_, rfl⟩ | ⟨_, rfl⟩ <;> decide
  have e1 : (0 : Int32) + 1 = 1 := by decide
  refine ⟨2, br_f (by decide) (br_t rfl ⟨i0, pk_lt k (3 + c) (fun z => ?_) (fun z => ?_) rfl h5⟩)⟩
  · exact fg_crawl hO hP hx hy z (fun fl pc dp b8 R => nm_r e1 (br_f (by decide) (br_f (by decide) (H _ _ _ _ _ R))))
  · exact fg_block hO hP hx hy h5 h6 z (fun fl pc dp b8 R => nm_r e1 (br_f (by decide) (br_f (by decide) (H _ _ _ _ _ R))))
theorem fg_run {post : Int32 → St2 → Prop} {o x y f : Int32} {c k : Nat} (hO : fg_O o c) (hP : fg_P a1 o) (hx : a2 0 = x) (hy : a2 1 = y) (hk : k ≤ 2000) (hf : ∀ P : Int32 → Prop, P (nI k) → wpX_clampFuel P () f)
    (H : ∀ (st fl pc dp : Int32) (b3 b4 b5 b6 b7 b8 : Nat → Int32), fg_R x y (fg_v o x y) c k st fl pc dp b8 → post st (4, 1, 1, 4, st, fl, pc, dp, a1, a2, b3, b4, b5, b6, b7, b8, a9)) :
    wpX_run post (4, 0, gd, ls, st, fu, pc, dp, a1, a2, a3, a4, a5, a6, a7, a8, a9) f := by
  unfold wpX_run
  dsimp only
  refine fg_check hO hP (fun b3 b4 b5 b6 b7 k5 k6 => br_f (show ¬ (1 : Int32) = 0 by decide) (hf _ ?_))
  exact fg_carry hO hP hx hy k5 k6 hk (fun st fl pc dp b8 R => H st fl pc dp b3 b4 b5 b6 b7 b8 R)
end
end
section
section
variable {sz ck gd ls st fu pc dp : Int32} {a1 a2 a3 a4 a5 a6 a7 a8 a9 : Nat → Int32}
/-- what the law asks behind the run -/
theorem fg_fin {post : Int32 → St0 → Prop} {x y v : Int32} {c k mc ms kc ks : Nat} (h1 : 1 ≤ c) (h3 : c ≤ 3) (hk : k ≤ 2000) (R : fg_R x y v c k st fu pc dp a8) (H : post 1 ()) :
    wL_lawOf_146 post mc ms x y (nI c) (nI k) (nI (3 + c)) v kc ks sz ck gd ls st fu pc dp a1 a2 a3 a4 a5 a6 a7 a8 a9 := by
  have e2 : (2 : Int32) + nI c = nI (2 + c) := nI_add 2 c
  rcases R with ⟨r, rfl, rfl, rfl, rfl⟩ | ⟨r, rfl, rfl, rfl, rfl, g0⟩ | ⟨r, r', rfl, rfl, rfl, rfl, g0, g1⟩ | ⟨r, rfl, rfl, rfl, rfl, g0⟩ | ⟨r, rfl, rfl, rfl, rfl, g0⟩
  · refine pk_le 1 k (fun z => absurd z (by omega)) (fun _ => ?_)
    refine pk_le 2 k (fun z => absurd z (by omega)) (fun _ => ?_)
    refine br_f (by decide) (br_t rfl (br_t rfl (br_f (by decide) (br_t rfl ?_))))
    refine br_t rfl (br_t rfl ?_)
    refine br_f (by decide) (br_f (by decide) (br_f (by decide) (br_t rfl ?_)))
    exact br_f (by decide) (br_f (by decide) (br_f (by decide) (br_f (by decide) (br_t rfl H))))
  · refine pk_le 1 k (fun _ => pk_le 2 k (fun z => absurd z (by omega)) (fun _ => ?_)) (fun z => absurd z (by omega))
    refine pk_le 2 k (fun z => absurd z (by omega)) (fun _ => ?_)
    refine br_f (by decide) (br_t rfl (br_t rfl (br_f (by decide) (br_f (by decide) (br_f (by decide) ?_)))))
    refine br_t rfl (br_f (by decide) (br_t rfl ?_))
    refine br_f (by decide) (br_f (by decide) (br_t (by decide) ⟨fg_in (by decide), br_t g0 ?_⟩))
    exact br_f (by decide) (br_f (by decide) (br_f (by decide) (br_f (by decide) (br_t rfl H))))
  · refine pk_le 1 k (fun _ => pk_le 2 k (fun _ => pk_le (2 + c) k (fun z => absurd z (by omega)) (fun _ => ?_) e2) (fun z => absurd z (by omega))) (fun z => absurd z (by omega))
    refine pk_le 2 k (fun _ => pk_le (2 + c) k (fun z => absurd z (by omega)) (fun _ => ?_) e2) (fun z => absurd z (by omega))
    refine br_f (by decide) (br_t rfl (br_t (fg_sub (a := 2) rfl rfl r rfl).symm (br_f (by decide) (br_f (by decide) (br_t rfl ?_)))))
    refine br_t rfl (br_f (by decide) (br_f (by decide) (br_t rfl ?_)))
    refine br_f (by decide) (br_f (by decide) (br_t (by decide) ⟨fg_in (by decide), br_t g1 ?_⟩))
    exact br_f (by decide) (br_f (by decide) (br_t (by decide) ⟨fg_in (by decide), br_t rfl (br_t g0 H)⟩))
  · refine pk_le 1 k (fun _ => pk_le 2 k (fun _ => pk_le (2 + c) k (fun _ => ?_) (fun z => absurd z (by omega)) e2) (fun z => absurd z (by omega))) (fun z => absurd z (by omega))
    refine pk_le 2 k (fun _ => pk_le (2 + c) k (fun _ => pk_le (3 + c) k (fun z => absurd z (by omega)) (fun _ => ?_)) (fun z => absurd z (by omega)) e2) (fun z => absurd z (by omega))
    have el : nI 0 = (nI k - 2) - nI c := (fg_sub (a := c) (k := k - 2) (fg_sub (a := 2) rfl rfl (by omega) rfl) rfl (by omega) (by omega)).symm
    refine br_f (by decide) (br_t rfl (br_t el (br_f (by decide) (br_f (by decide) (br_f (by decide) ?_)))))
    refine br_t rfl (br_f (by decide) (br_f (by decide) (br_f (by decide) ?_)))
    refine br_f (by decide) (br_f (by decide) (br_t (by decide) ⟨fg_in (by decide), br_t g0 ?_⟩))
    exact br_f (by decide) (br_f (by decide) (br_f (by decide) (br_f (by decide) (br_t rfl H))))
  · refine pk_le 1 k (fun _ => pk_le 2 k (fun _ => pk_le (2 + c) k (fun _ => ?_) (fun z => absurd z (by omega)) e2) (fun z => absurd z (by omega))) (fun z => absurd z (by omega))
    refine pk_le 2 k (fun _ => pk_le (2 + c) k (fun _ => pk_le (3 + c) k (fun _ => ?_) (fun z => absurd z (by omega))) (fun z => absurd z (by omega)) e2) (fun z => absurd z (by omega))
    refine br_f (by decide) (br_t rfl (br_t (fg_sub (a := 3 + c) rfl rfl r rfl).symm (br_f (by decide) (br_f (by decide) (br_f (by decide) ?_)))))
    refine br_t rfl (br_f (by decide) (br_f (by decide) (br_f (by decide) ?_)))
    refine br_f (by decide) (br_f (by decide) (br_t (by decide) ⟨fg_in (by decide), br_t g0 ?_⟩))
    exact br_f (by decide) (br_f (by decide) (br_f (by decide) (br_f (by decide) (br_t rfl H))))
theorem fg_st {x y v : Int32} {c k : Nat} (hk : k ≤ 2000) (R : fg_R x y v c k st fu pc dp a8) : (3 + c ≤ k → st = 1) ∧ (k < 3 + c → st = 2) := by
  rcases R with ⟨r, e, _⟩ | ⟨r, e, _⟩ | ⟨r, r', e, _⟩ | ⟨r, e, _⟩ | ⟨r, e, _⟩
  · exact ⟨fun z => absurd z (by omega), fun _ => e⟩
  · exact ⟨fun z => absurd z (by omega), fun _ => e⟩
  · exact ⟨fun z => absurd z (by omega), fun _ => e⟩
  · exact ⟨fun z => absurd z (by omega), fun _ => e⟩
  · exact ⟨fun _ => e, fun z => absurd z (by omega)⟩
theorem fg_114 {post : Int32 → St0 → Prop} {o x y z0 : Int32} {c k mc ms kc ks : Nat} (hO : fg_O o c) (hk : k ≤ 2000) (hz : st = z0) (R : fg_R x y (fg_v o x y) c k st fu pc dp a8) (H : post 1 ()) :
    wL_lawOf_114 post mc ms x y o (nI c) (nI k) (nI (3 + c)) z0 st kc ks sz ck gd ls st fu pc dp a1 a2 a3 a4 a5 a6 a7 a8 a9 := by
  refine br_t hz ?_
  rcases hO with ⟨rfl, rfl⟩ | ⟨rfl, rfl⟩ | ⟨rfl, rfl⟩
  · rw [fg_v3] at R
    exact br_t rfl (fg_fin (by decide) (by decide) hk R H)
  · rw [fg_v4] at R
    exact br_f (by decide) (br_t rfl (fg_fin (by decide) (by decide) hk R H))
  · rw [fg_v5] at R
    exact br_f (by decide) (br_f (by decide) (fg_fin (by decide) (by decide) hk R H))
theorem fg_88 {post : Int32 → St0 → Prop} {o x y f : Int32} {c k mc ms kc ks : Nat} (hO : fg_O o c) (hP : fg_P a1 o) (hx : a2 0 = x) (hy : a2 1 = y) (hk : k ≤ 2000) (hf : ∀ P : Int32 → Prop, P (nI k) → wpX_clampFuel P () f) (H : post 1 ()) :
    wL_lawOf_88 post mc ms x y f o (nI c) (nI k) kc ks 4 0 gd ls st fu pc dp a1 a2 a3 a4 a5 a6 a7 a8 a9 := by
  have hc3 : c ≤ 3 := by rcases hO with ⟨_, rfl⟩ | ⟨_, rfl⟩ | ⟨_, rfl⟩ <;> decide
  refine nm_r (show (3 : Int32) + nI c = nI (3 + c) from nI_add 3 c) ?_
  refine fg_run hO hP hx hy hk hf (fun st fl pc dp b3 b4 b5 b6 b7 b8 R => ?_)
  exact pk_le (3 + c) k (fun z => fg_114 hO hk ((fg_st hk R).1 z) R H) (fun z => fg_114 hO hk ((fg_st hk R).2 z) R H)
theorem fg_30 {post : Int32 → St0 → Prop} {o x y f : Int32} {c mc ms kc ks : Nat} (hO : fg_O o c) (H : post 1 ()) :
    wL_lawOf_30 post mc ms x y f o (nI c) kc ks 0 ck gd ls st fu pc dp a1 a2 a3 a4 a5 a6 a7 a8 a9 := by
  have o0 : ¬ o < 0 := by rcases hO with ⟨rfl, _⟩ | ⟨rfl, _⟩ | ⟨rfl, _⟩ <;> decide
  have o14 : o ≤ 14 := by rcases hO with ⟨rfl, _⟩ | ⟨rfl, _⟩ | ⟨rfl, _⟩ <;> decide
  refine fg_emit 1 0 (by decide) (by decide) (by decide) (fg_in (by decide)) (by decide) (by decide) (fun _ => ?_)
  refine fg_emit 2 1 (by decide) (by decide) (by decide) (fg_in (by decide)) (by decide) (by decide) (fun _ => ?_)
  refine fg_emit 3 2 (by decide) (by decide) (by decide) (fg_in (by decide)) o0 o14 (fun _ => ?_)
  refine fg_emit 4 3 (by decide) (by decide) (by decide) (fg_in (by decide)) (by decide) (by decide) (fun _ => ?_)
  have hP : fg_P (upd (upd (upd (upd a1 0 0) 1 0) 2 o) 3 13) o := ⟨rfl, rfl, rfl, rfl⟩
  have hx : upd (upd (upd (upd a2 0 x) 1 y) 2 0) 3 0 0 = x := rfl
  have hy : upd (upd (upd (upd a2 0 x) 1 y) 2 0) 3 0 1 = y := rfl
  refine br_c (fun g => br_c (fun g2 => ?_) (fun g2 => ?_)) (fun g => ?_)
  · obtain ⟨k, _, rfl⟩ := nI_of (x := f) (fun z => by
      rw [Int32.lt_iff_toInt_lt] at z
      rw [Int32.le_iff_toInt_le] at g
      omega)
    have hk : k ≤ 2000 := (nI_leI (b := 2000) (by omega) (by omega)).mp g2
    exact fg_88 hO hP hx hy hk (fun P h => br_t g (br_t g2 h)) H
  · exact fg_88 (k := 2000) hO hP hx hy (by omega) (fun P h => br_t g (br_f g2 h)) H
  · exact fg_88 (k := 0) hO hP hx hy (by omega) (fun P h => br_f g h) H
theorem fg_lawOf {post : Int32 → St0 → Prop} (x y w f : Int32) (H : post 1 ()) : wpL_lawOf post 110 1760 () x y w f := by
  obtain ⟨j, hj, e⟩ := pk_andE w (m := 2147483647) 31 (by decide)
  have er : (3 : Int32) + ((w &&& 2147483647) - (w &&& 2147483647) / 3 * 3) = nI (3 + j % 3) := by
    rw [e, ← nI_add]
    exact congrArg (fun t => (3 : Int32) + t) (pk_rem (d := 3) hj (by decide) (by decide))
  refine And.intro (by decide) ⟨by decide, 109, 1743, by decide, by decide, ?_⟩
  refine And.intro (by decide) ⟨by decide, by decide, by decide, by decide, by decide, by decide, by decide, by decide, by decide, by decide, by decide, by decide, by decide, by decide, by decide, by decide, by decide, ?_⟩
  refine And.intro (by decide) (nm_r er ?_)
  have h : j % 3 = 0 ∨ j % 3 = 1 ∨ j % 3 = 2 := by omega
  rcases h with h | h | h <;> rw [h]
  · exact br_f (by decide) (fg_30 (c := 1) (Or.inl ⟨rfl, rfl⟩) H)
  · exact br_f (by decide) (fg_30 (c := 1) (Or.inr (Or.inl ⟨rfl, rfl⟩)) H)
  · exact br_t (by decide) (fg_30 (c := 3) (Or.inr (Or.inr ⟨rfl, rfl⟩)) H)
theorem fg_cell {P : Int32 → Prop} {L : Nat} {xs : Nat → Int32} (i : Nat) (hi : i < 4) (hL : L ≤ 4) (H : ∀ r, P r) : wpL_cellAt P L xs () (nI i) :=
  pk_le L i (fun _ => H _) (fun z => ⟨pk_in i L z, H _⟩)
end
theorem i_vc (xs : Nat → Int32) (L : Nat) (hL : L ≤ 4) : wpL_law (fun r => r = 1) L xs :=
  fg_cell 0 (by decide) hL (fun x => fg_cell 1 (by decide) hL (fun y => fg_cell 2 (by decide) hL (fun w => fg_cell 3 (by decide) hL (fun f => ⟨110, 1760, by decide, by decide, fg_lawOf x y w f rfl⟩))))
end
