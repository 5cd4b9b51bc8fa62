section
/-- what volume answers on a box -/
def ra_vol (x : Int32) : Int32 :=
  ((((x >>> ((10 : Int32) &&& 31)) &&& 15) - ((x >>> ((14 : Int32) &&& 31)) &&& 15) + 1) * (((x >>> ((2 : Int32) &&& 31)) &&& 15) - ((x >>> ((6 : Int32) &&& 31)) &&& 15) + 1)) * ((x &&& 1) - ((x >>> ((1 : Int32) &&& 31)) &&& 1) + 1)
/-- the law's three questions of its arguments -/
abbrev ra_rng (f a b : Int32) : Prop := ¬ f < 0 ∧ ¬ 1 < f ∧ ¬ a < 0 ∧ ¬ b < a ∧ ¬ 15 < b
abbrev ra_set (w : Int32) : Prop := ¬ w < 0 ∧ ¬ 2 < w
abbrev ra_ok (x y : Int32) : Prop := x = 0 ∧ (y = 0 ∨ y = 1)
/-- a range written into a draft at shift z -/
def ra_put (z a b d : Int32) : Int32 := ((d &&& (((255 : Int32) <<< (z &&& 31)) ^^^ (-1))) ||| (a <<< ((z + 4) &&& 31))) ||| (b <<< (z &&& 31))
/-- the draft after draftRange, then after draftSet -/
def ra_d1 (f a b : Int32) : Int32 := if ra_rng f a b then (if f = 0 then ra_put 10 a b 15421 else ra_put 2 a b 15421) else 15421
def ra_d2 (w d : Int32) : Int32 := if ra_set w then (if w = 0 then (d &&& (-4)) ||| 0 else if w = 1 then (d &&& (-4)) ||| 3 else (d &&& (-4)) ||| 1) else d
theorem ra_c1 {a b : Int32} (h : 15 < a) (h1 : ¬ b < a) (h2 : ¬ 15 < b) : False := by
  rw [Int32.lt_iff_toInt_lt] at h h1 h2
  omega
theorem ra_c2 {a b : Int32} (h : b < 0) (h1 : ¬ a < 0) (h2 : ¬ b < a) : False := by
  rw [Int32.lt_iff_toInt_lt] at h h1 h2
  omega
theorem ra_le {a b : Int32} (h : ¬ a < b) : b ≤ a := by
  rw [Int32.lt_iff_toInt_lt] at h
  rw [Int32.le_iff_toInt_le]
  omega
theorem ra_lt {a b : Int32} (h : ¬ a ≤ b) : b < a := by
  rw [Int32.le_iff_toInt_le] at h
  rw [Int32.lt_iff_toInt_lt]
  omega
theorem ra_eq0 {x : Int32} (h : ¬ x < 0) (h1 : ¬ 0 < x) : x = 0 := by
  rw [Int32.lt_iff_toInt_lt] at h h1
  exact Int32.toInt_inj.mp (by omega)
theorem ra_01 {x : Int32} (h : ¬ x < 0) (h1 : x ≤ 1) : x = 0 ∨ x = 1 := by
  obtain ⟨j, hj, rfl⟩ := nI_of2 (n := 1) (by decide) h h1
  match j, hj with
  | 0, _ => exact Or.inl rfl
  | 1, _ => exact Or.inr rfl
theorem ra_012 {x : Int32} (h : ¬ x < 0) (h1 : x ≤ 2) : x = 0 ∨ x = 1 ∨ x = 2 := by
  obtain ⟨j, hj, rfl⟩ := nI_of2 (n := 2) (by decide) h h1
  match j, hj with
  | 0, _ => exact Or.inl rfl
  | 1, _ => exact Or.inr (Or.inl rfl)
  | 2, _ => exact Or.inr (Or.inr rfl)
/-- a draft d of width w: its volume, and its volume after each of the three sets -/
abbrev ra_K (d w : Int32) : Prop := ra_vol d = w * 16 * 2 ∧ ra_vol ((d &&& (-4)) ||| 0) = w * 16 * 1 ∧ ra_vol ((d &&& (-4)) ||| 3) = w * 16 * 1 ∧ ra_vol ((d &&& (-4)) ||| 1) = w * 16 * 2
theorem ra_k0 : ra_K 15421 16 := by decide +kernel
theorem ra_k1 : ∀ b, b < 16 → ∀ a, a < 16 → a ≤ b → ra_K (ra_put 10 (nI a) (nI b) 15421) (nI b - nI a + 1) := by decide +kernel
theorem ra_k2 : ∀ b, b < 16 → ∀ a, a < 16 → a ≤ b → ra_K (ra_put 2 (nI a) (nI b) 15421) (nI b - nI a + 1) := by decide +kernel
theorem ra_kd {f a b w : Int32} (h : (ra_rng f a b ∧ w = b - a + 1) ∨ (¬ ra_rng f a b ∧ w = 16)) : ra_K (ra_d1 f a b) w := by
  rcases h with ⟨hr, rfl⟩ | ⟨hr, rfl⟩
  · have e : ra_d1 f a b = (if f = 0 then ra_put 10 a b 15421 else ra_put 2 a b 15421) := if_pos hr
    rw [e]
    obtain ⟨h0, h1, h2, h3, h4⟩ := hr
    obtain ⟨j, hj, rfl⟩ := nI_of2 (n := 15) (by decide) (fun z => ra_c2 z h2 h3) (ra_le h4)
    have ha : a ≤ 15 := by
      rw [Int32.lt_iff_toInt_lt] at h3 h4
      rw [Int32.le_iff_toInt_le]
      omega
    obtain ⟨i, hi, rfl⟩ := nI_of2 (n := 15) (by decide) h2 ha
    have hij : i ≤ j := by
      rcases Nat.lt_or_ge j i with z | z
      · exact absurd (nI_lt z (by omega)) h3
      · exact z
    rcases ra_01 h0 (ra_le h1) with rfl | rfl
    · rw [if_pos rfl]
      exact ra_k1 j (by omega) i (by omega) hij
    · rw [if_neg (by decide)]
      exact ra_k2 j (by omega) i (by omega) hij
  · have e : ra_d1 f a b = 15421 := if_neg hr
    rw [e]
    exact ra_k0
theorem ra_sn {d w x : Int32} (k : ra_K d w) (h : ¬ ra_set x) : ra_vol (ra_d2 x d) = w * 16 * 2 := by
  have e : ra_d2 x d = d := if_neg h
  rw [e]
  exact k.1
theorem ra_s2 {d w x : Int32} (k : ra_K d w) (h : ra_set x) (h2 : 2 ≤ x) : ra_vol (ra_d2 x d) = w * 16 * 2 := by
  have e : ra_d2 x d = (if x = 0 then (d &&& (-4)) ||| 0 else if x = 1 then (d &&& (-4)) ||| 3 else (d &&& (-4)) ||| 1) := if_pos h
  rw [e]
  rcases ra_012 h.1 (ra_le h.2) with rfl | rfl | rfl
  · exact absurd h2 (by decide)
  · exact absurd h2 (by decide)
  · rw [if_neg (by decide), if_neg (by decide)]
    exact k.2.2.2
theorem ra_s1 {d w x : Int32} (k : ra_K d w) (h : ra_set x) (h2 : ¬ 2 ≤ x) : ra_vol (ra_d2 x d) = w * 16 * 1 := by
  have e : ra_d2 x d = (if x = 0 then (d &&& (-4)) ||| 0 else if x = 1 then (d &&& (-4)) ||| 3 else (d &&& (-4)) ||| 1) := if_pos h
  rw [e]
  rcases ra_012 h.1 (ra_le h.2) with rfl | rfl | rfl
  · rw [if_pos rfl]
    exact k.2.1
  · rw [if_neg (by decide), if_pos rfl]
    exact k.2.2.1
  · exact absurd (show (2 : Int32) ≤ 2 by decide) h2
end
section
theorem ra_in10 : vp_in 0 10 := vp_in_iff.mpr (by decide)
theorem ra_in512 : vp_in 0 512 := vp_in_iff.mpr (by decide)
theorem ra_cl : (0 : Int32).toNatClampNeg = 0 := by decide
section
variable {post : Int32 → St2 → Prop} {posu : St2 → Prop} {posi : Int32 → Prop} {d rc wc pc ac sc p0 p1 p2 : Int32} {a1 a2 a3 a4 a5 a6 : Nat → Int32}
theorem ra_w1 (h1 : ra_rng p0 p1 p2 → post 1 (ra_d1 p0 p1 p2, rc, wc, pc, ac, sc, a1, a2, a3, a4, a5, a6))
    (h0 : ¬ ra_rng p0 p1 p2 → post 0 (ra_d1 p0 p1 p2, rc, wc, pc, ac, sc, a1, a2, a3, a4, a5, a6)) :
    wpX_draftRange post (15421, rc, wc, pc, ac, sc, a1, a2, a3, a4, a5, a6) p0 p1 p2 := by
  have g0 : ¬ ra_rng p0 p1 p2 → post 0 (15421, rc, wc, pc, ac, sc, a1, a2, a3, a4, a5, a6) := by
    intro hr
    have e : ra_d1 p0 p1 p2 = 15421 := if_neg hr
    have t := h0 hr
    rw [e] at t
    exact t
  have g1 : ra_rng p0 p1 p2 → post 1 (if p0 = 0 then ra_put 10 p1 p2 15421 else ra_put 2 p1 p2 15421, rc, wc, pc, ac, sc, a1, a2, a3, a4, a5, a6) := by
    intro hr
    have e : ra_d1 p0 p1 p2 = (if p0 = 0 then ra_put 10 p1 p2 15421 else ra_put 2 p1 p2 15421) := if_pos hr
    have t := h1 hr
    rw [e] at t
    exact t
  refine br_c (fun c => g0 (fun t => t.1 c)) (fun c0 => br_c (fun c1 => ?_) (fun c1 => g0 (fun t => t.2.1 (ra_lt c1))))
  refine br_c (fun c => g0 (fun t => t.2.2.1 c)) (fun c2 => br_c (fun c => g0 (fun t => ra_c1 c t.2.2.2.1 t.2.2.2.2)) (fun c3 => ?_))
  refine br_c (fun c => g0 (fun t => ra_c2 c t.2.2.1 t.2.2.2.1)) (fun c4 => br_c (fun c => g0 (fun t => t.2.2.2.2 c)) (fun c5 => ?_))
  refine br_c (fun c6 => ?_) (fun c => g0 (fun t => t.2.2.2.1 (ra_lt c)))
  have hr : ra_rng p0 p1 p2 := by
    refine ⟨c0, ?_, c2, ?_, c5⟩
    · intro z
      rw [Int32.lt_iff_toInt_lt] at z
      rw [Int32.le_iff_toInt_le] at c1
      omega
    · intro z
      rw [Int32.lt_iff_toInt_lt] at z
      rw [Int32.le_iff_toInt_le] at c6
      omega
  have t := g1 hr
  refine br_c (fun c7 => fun f ef => ?_) (fun c7 => fun f ef => ?_)
  · rw [if_pos c7] at t
    rw [ef]
    exact t
  · rw [if_neg c7] at t
    rw [ef]
    exact t
theorem ra_w2 (h1 : ra_set p0 → post 1 (ra_d2 p0 d, rc, wc, pc, ac, sc, a1, a2, a3, a4, a5, a6))
    (h0 : ¬ ra_set p0 → post 0 (ra_d2 p0 d, rc, wc, pc, ac, sc, a1, a2, a3, a4, a5, a6)) :
    wpX_draftSet post (d, rc, wc, pc, ac, sc, a1, a2, a3, a4, a5, a6) p0 := by
  have g0 : ¬ ra_set p0 → post 0 (d, rc, wc, pc, ac, sc, a1, a2, a3, a4, a5, a6) := by
    intro hr
    have e : ra_d2 p0 d = d := if_neg hr
    have t := h0 hr
    rw [e] at t
    exact t
  refine br_c (fun c => g0 (fun t => t.1 c)) (fun c0 => br_c (fun c1 => ?_) (fun c1 => g0 (fun t => t.2 (ra_lt c1))))
  have hr : ra_set p0 := by
    refine ⟨c0, ?_⟩
    intro z
    rw [Int32.lt_iff_toInt_lt] at z
    rw [Int32.le_iff_toInt_le] at c1
    omega
  have e : ra_d2 p0 d = (if p0 = 0 then (d &&& (-4)) ||| 0 else if p0 = 1 then (d &&& (-4)) ||| 3 else (d &&& (-4)) ||| 1) := if_pos hr
  have t := h1 hr
  rw [e] at t
  refine br_c (fun c2 => fun f ef => ?_) (fun c2 => br_c (fun c3 => fun f ef => ?_) (fun c3 => fun f ef => ?_))
  · rw [if_pos c2] at t
    rw [ef]
    exact t
  · rw [if_neg c2, if_pos c3] at t
    rw [ef]
    exact t
  · rw [if_neg c2, if_neg c3] at t
    rw [ef]
    exact t
/-- insert into the empty list, taken -/
theorem ra_w3 {x : Int32} (hx : x = 0 ∨ x = 1) (h : post 1 (d, 1, wc, pc, ac, sc, upd a1 0 d, upd a2 0 x, a3, a4, a5, a6)) :
    wpX_insert post (d, 0, wc, pc, ac, sc, a1, a2, a3, a4, a5, a6) 0 x := by
  have hb : x.toInt8.toInt32 = x := by
    rcases hx with rfl | rfl
    · decide
    · decide
  have c1 : ¬ x < 0 := by
    rcases hx with rfl | rfl
    · decide
    · decide
  have c2 : x ≤ 1 := by
    rcases hx with rfl | rfl
    · decide
    · decide
  refine br_t (by decide) (br_f (by decide) (br_f (by decide) (br_f c1 (br_t c2 ⟨1, br_t (by decide) ⟨ra_in10, fun b1 e1 => ⟨ra_in10, fun b2 e2 => fun f ef => ?_⟩⟩⟩))))
  rw [ra_cl] at e1 e2
  rw [hb] at e2
  rw [e1, e2, ef]
  exact h
/-- insert into the empty list, refused -/
theorem ra_w3n {x y : Int32} (hn : ¬ ra_ok x y) (h : post (-1) (d, 0, wc, pc, ac, sc, a1, a2, a3, a4, a5, a6)) :
    wpX_insert post (d, 0, wc, pc, ac, sc, a1, a2, a3, a4, a5, a6) x y :=
  br_t (by decide) (br_c (fun _ => h) (fun c0 => br_c (fun _ => h) (fun c1 => br_c (fun _ => h) (fun c2 => br_c (fun c3 => absurd (⟨ra_eq0 c0 c1, ra_01 c2 c3⟩ : ra_ok x y) hn) (fun _ => h)))))
theorem ra_volume (h : posi (ra_vol p0)) : wpX_volume posi (d, rc, wc, pc, ac, sc, a1, a2, a3, a4, a5, a6) p0 :=
  fun x2 e2 => fun x3 e3 => fun x4 e4 => by
    rw [e2, e3, e4]
    exact h
/-- carveOwned of the first rule: the work list is its box -/
theorem ra_own (h : posu (d, rc, 1, pc, ac, sc, a1, a2, upd a3 0 (a1 0), a4, a5, a6)) :
    wpX_carveOwned posu (d, rc, wc, pc, ac, sc, a1, a2, a3, a4, a5, a6) 0 := by
  refine ⟨ra_in10, fun b e => ⟨1, br_t (by decide) ?_⟩⟩
  rw [ra_cl] at e
  rw [e]
  exact h
/-- volumeOfWork over a work list of one box -/
theorem ra_vw (h : posi (ra_vol (a3 0))) : wpX_volumeOfWork posi (d, rc, 1, pc, ac, sc, a1, a2, a3, a4, a5, a6) := by
  refine ⟨2, br_f (by decide) ⟨ra_in512, ra_volume (fun x ex => fun y ey => ?_)⟩⟩
  rw [ra_cl, Int32.zero_add] at ex
  rw [ex, ey]
  exact br_t (by decide) h
theorem ra_w4 (h : post (ra_vol (a1 0)) (d, 1, 1, pc, ac, sc, a1, a2, upd a3 0 (a1 0), a4, a5, a6)) :
    wpX_owned post (d, 1, wc, pc, ac, sc, a1, a2, a3, a4, a5, a6) 0 :=
  br_f (by decide) (br_f (by decide) (br_f (by decide) (ra_own (ra_vw (by rw [pk_us]; exact h)))))
theorem ra_no (x : Int32) (h : posi 0) : wpX_isRule posi (d, 0, wc, pc, ac, sc, a1, a2, a3, a4, a5, a6) x :=
  br_c (fun _ => h) (fun c => br_t (ra_le c) h)
theorem ra_w4n (x : Int32) (h : post (-1) (d, 0, wc, pc, ac, sc, a1, a2, a3, a4, a5, a6)) :
    wpX_owned post (d, 0, wc, pc, ac, sc, a1, a2, a3, a4, a5, a6) x := by
  unfold wpX_owned
  exact ra_no x (br_t rfl h)
theorem ra_w5n (x : Int32) (h : post (-1) (d, 0, wc, pc, ac, sc, a1, a2, a3, a4, a5, a6)) :
    wpX_fault post (d, 0, wc, pc, ac, sc, a1, a2, a3, a4, a5, a6) x := by
  unfold wpX_fault
  exact ra_no x (br_t rfl h)
/-- fault of the only rule -/
theorem ra_w5 (h0 : a2 0 = 0 → post 3 (d, 1, 1, pc, ac, sc, a1, a2, upd a3 0 (a1 0), a4, a5, a6))
    (h1 : ¬ a2 0 = 0 → post 0 (d, 1, 1, pc, ac, sc, a1, a2, upd a3 0 (a1 0), a4, a5, a6)) :
    wpX_fault post (d, 1, wc, pc, ac, sc, a1, a2, a3, a4, a5, a6) 0 := by
  refine br_f (by decide) (br_f (by decide) (br_f (by decide) (ra_own (br_f (by decide) ?_))))
  refine fun x ex => ⟨1, ?_⟩
  rw [ex]
  refine br_t (by decide) (br_f (by decide) ⟨ra_in10, br_c (fun c => br_f (by decide) (h0 ?_)) (fun c => br_t rfl ⟨1, br_t (by decide) (br_t rfl (h1 ?_))⟩)⟩)
  · rw [ra_cl] at c
    exact c
  · rw [ra_cl] at c
    exact c
/-- gatherAllowed: no rule; one rule that denies; one that allows -/
theorem ra_g0 (h : posu (d, 0, wc, pc, 0, sc, a1, a2, a3, a4, a5, a6)) : wpX_gatherAllowed posu (d, 0, wc, pc, ac, sc, a1, a2, a3, a4, a5, a6) :=
  ⟨1, br_t (by decide) h⟩
theorem ra_g1 (ha : a2 0 = 0) (h : posu (d, 1, wc, pc, 0, sc, a1, a2, a3, a4, a5, a6)) : wpX_gatherAllowed posu (d, 1, wc, pc, ac, sc, a1, a2, a3, a4, a5, a6) := by
  refine ⟨2, br_f (by decide) ⟨ra_in10, br_t ?_ (fun x ex => ?_)⟩⟩
  · rw [ra_cl]
    exact ha
  · rw [ex]
    exact br_t (by decide) h
theorem ra_g2 (ha : ¬ a2 0 = 0) (h : posu (d, 1, 1, pc, 1, sc, a1, a2, upd a3 0 (a1 0), a4, upd a5 0 (a1 0), a6)) :
    wpX_gatherAllowed posu (d, 1, wc, pc, ac, sc, a1, a2, a3, a4, a5, a6) := by
  refine ⟨2, br_f (by decide) ⟨ra_in10, br_f ?_ (ra_own ⟨2, br_f (by decide) ⟨ra_in512, ra_in512, fun b eb => fun f ef => fun y ey => ?_⟩⟩)⟩⟩
  · rw [ra_cl]
    exact ha
  · rw [ra_cl, pk_us] at eb
    rw [eb, ef, ey]
    refine br_t (by decide) (fun x ex => ?_)
    rw [ex]
    exact br_t (by decide) h
/-- save: nothing allowed, or one box -/
theorem ra_v0 (h : post 0 (d, rc, wc, pc, 0, 0, a1, a2, a3, a4, a5, a6)) : ∃ n, wX_save_8 post d rc wc pc 0 sc n 0 0 a1 a2 a3 a4 a5 a6 :=
  ⟨1, br_t (by decide) h⟩
theorem ra_v1 (h : post (ra_vol (a5 0)) (d, rc, wc, pc, 1, 1, a1, a2, a3, a4, a5, upd a6 0 (a5 0))) : ∃ n, wX_save_8 post d rc wc pc 1 sc n 0 0 a1 a2 a3 a4 a5 a6 := by
  refine ⟨2, br_f (by decide) ⟨ra_in512, ra_in512, fun b eb => ⟨ra_in512, ra_volume (fun x ex => fun y ey => ?_)⟩⟩⟩
  rw [ra_cl] at eb ex
  rw [Int32.zero_add] at ex
  rw [eb, ex, ey]
  exact br_t (by decide) h
theorem ra_w6n (h : post 0 (d, 0, wc, pc, 0, 0, a1, a2, a3, a4, a5, a6)) : wpX_save post (d, 0, wc, pc, ac, sc, a1, a2, a3, a4, a5, a6) :=
  ra_g0 (ac := ac) (ra_v0 h)
theorem ra_w6d (ha : a2 0 = 0) (h : post 0 (d, 1, wc, pc, 0, 0, a1, a2, a3, a4, a5, a6)) : wpX_save post (d, 1, wc, pc, ac, sc, a1, a2, a3, a4, a5, a6) :=
  ra_g1 (ac := ac) ha (ra_v0 h)
theorem ra_w6a (ha : ¬ a2 0 = 0) (h : ∀ u, post (ra_vol (a1 0)) u) : wpX_save post (d, 1, wc, pc, ac, sc, a1, a2, a3, a4, a5, a6) :=
  ra_g2 (ac := ac) (wc := wc) ha (ra_v1 (by rw [pk_us]; exact h _))
end
end
section
section
variable {post : Int32 → St0 → Prop} {mc ms kc ks : Nat} {x0 x1 x2 x3 x4 x5 x6 x7 x8 x9 z0 z1 d rc wc pc ac sc : Int32} {a1 a2 a3 a4 a5 a6 : Nat → Int32}
theorem ra_242 (hp : post 1 ()) (z : Int32) : wL_lawOf_242 post mc ms z z kc ks := br_t rfl hp
theorem ra_241 (hp : post 1 ()) : wL_lawOf_241 post mc ms 0 kc ks := ra_242 hp 0
/-- a rule was put: the three answers -/
theorem ra_215 (hp : post 1 ()) (hx : x5 = 0 ∨ x5 = 1) (h2 : a2 0 = x5) (hv : ra_vol (a1 0) = x9) (z : Int32) :
    wL_lawOf_215 post mc ms x5 1 x9 z z kc ks d 1 wc pc ac sc a1 a2 a3 a4 a5 a6 := by
  refine br_t rfl ?_
  rcases hx with e | e
  · rw [e] at h2
    rw [e]
    exact ra_w6d h2 (br_f (by decide) (br_f (by decide) (ra_241 hp)))
  · rw [e] at h2
    rw [e]
    refine ra_w6a (by rw [h2]; decide) (fun u => ?_)
    rw [hv]
    exact br_f (by decide) (br_t rfl (ra_242 hp x9))
theorem ra_185 (hp : post 1 ()) (hx : x5 = 0 ∨ x5 = 1) (h2 : a2 0 = x5) (hv : ra_vol (a1 0) = x9) (z : Int32) :
    wL_lawOf_185 post mc ms x5 1 x9 z z kc ks d 1 wc pc ac sc a1 a2 a3 a4 a5 a6 := by
  refine br_t rfl (ra_w5 (fun c => br_f (by decide) (br_t (h2 ▸ c) (ra_215 hp hx h2 hv 3))) (fun c => br_f (by decide) (br_f (h2 ▸ c) (ra_215 hp hx h2 hv 0))))
theorem ra_162 (hp : post 1 ()) (hx : x5 = 0 ∨ x5 = 1) (h2 : a2 0 = x5) (hv : ra_vol (a1 0) = x9) (z : Int32) :
    wL_lawOf_162 post mc ms 0 x5 1 x9 z z kc ks d 1 wc pc ac sc a1 a2 a3 a4 a5 a6 := by
  refine br_t rfl (ra_w4 (br_f (by decide) ?_))
  rw [hv]
  exact ra_185 hp hx h2 hv x9
/-- no rule was put -/
theorem ra_215n (hp : post 1 ()) (z : Int32) : wL_lawOf_215 post mc ms x5 0 x9 z z kc ks d 0 wc pc ac sc a1 a2 a3 a4 a5 a6 :=
  br_t rfl (ra_w6n (br_t rfl (ra_241 hp)))
theorem ra_185n (hp : post 1 ()) (z : Int32) : wL_lawOf_185 post mc ms x5 0 x9 z z kc ks d 0 wc pc ac sc a1 a2 a3 a4 a5 a6 :=
  br_t rfl (ra_w5n 0 (br_t rfl (ra_215n hp (-1))))
theorem ra_162n (hp : post 1 ()) (z : Int32) : wL_lawOf_162 post mc ms x4 x5 0 x9 z z kc ks d 0 wc pc ac sc a1 a2 a3 a4 a5 a6 :=
  br_t rfl (ra_w4n x4 (br_t rfl (ra_185n hp (-1))))
theorem ra_103 (hp : post 1 ()) (h6 : (ra_rng x0 x1 x2 ∧ x6 = 1) ∨ (¬ ra_rng x0 x1 x2 ∧ x6 = 0)) (h7 : (ra_set x3 ∧ x7 = 1) ∨ (¬ ra_set x3 ∧ x7 = 0))
    (h8 : (ra_ok x4 x5 ∧ x8 = 1) ∨ (¬ ra_ok x4 x5 ∧ x8 = 0)) (hv : ra_vol (ra_d2 x3 (ra_d1 x0 x1 x2)) = z1 * z0) :
    wL_lawOf_103 post 7 2080 x0 x1 x2 x3 x4 x5 x6 x7 x8 z0 z1 0 0 := by
  refine fun y ey => ⟨by omega, by omega, 6, 2068, by omega, by omega, ?_⟩
  refine ⟨by omega, by omega, by omega, by omega, by omega, by omega, by omega, by omega, by omega, by omega, by omega, by omega, ?_⟩
  have r1 : ra_rng x0 x1 x2 → 1 = x6 := fun h => h6.elim (fun t => t.2.symm) (fun t => absurd h t.1)
  have r0 : ¬ ra_rng x0 x1 x2 → 0 = x6 := fun h => h6.elim (fun t => absurd t.1 h) (fun t => t.2.symm)
  have s1 : ra_set x3 → 1 = x7 := fun h => h7.elim (fun t => t.2.symm) (fun t => absurd h t.1)
  have s0 : ¬ ra_set x3 → 0 = x7 := fun h => h7.elim (fun t => absurd t.1 h) (fun t => t.2.symm)
  rw [← ey] at hv
  rcases h8 with ⟨⟨e4, e5⟩, e8⟩ | ⟨hn, e8⟩
  · rw [e4, e8]
    refine ra_w1 (fun hr => br_t (r1 hr) ?_) (fun hr => br_t (r0 hr) ?_)
    · refine ra_w2 (fun hs => br_t (s1 hs) (ra_w3 e5 (br_f (by decide) (ra_162 hp e5 pk_us (by rw [pk_us]; exact hv) 1)))) (fun hs => br_t (s0 hs) (ra_w3 e5 (br_f (by decide) (ra_162 hp e5 pk_us (by rw [pk_us]; exact hv) 1))))
    · refine ra_w2 (fun hs => br_t (s1 hs) (ra_w3 e5 (br_f (by decide) (ra_162 hp e5 pk_us (by rw [pk_us]; exact hv) 1)))) (fun hs => br_t (s0 hs) (ra_w3 e5 (br_f (by decide) (ra_162 hp e5 pk_us (by rw [pk_us]; exact hv) 1))))
  · rw [e8]
    refine ra_w1 (fun hr => br_t (r1 hr) ?_) (fun hr => br_t (r0 hr) ?_)
    · exact ra_w2 (fun hs => br_t (s1 hs) (ra_w3n hn (br_t rfl (ra_162n hp (-1))))) (fun hs => br_t (s0 hs) (ra_w3n hn (br_t rfl (ra_162n hp (-1)))))
    · exact ra_w2 (fun hs => br_t (s1 hs) (ra_w3n hn (br_t rfl (ra_162n hp (-1))))) (fun hs => br_t (s0 hs) (ra_w3n hn (br_t rfl (ra_162n hp (-1)))))
theorem ra_85 {w : Int32} (hp : post 1 ()) (h6 : (ra_rng x0 x1 x2 ∧ x6 = 1) ∨ (¬ ra_rng x0 x1 x2 ∧ x6 = 0)) (h7 : (ra_set x3 ∧ x7 = 1) ∨ (¬ ra_set x3 ∧ x7 = 0))
    (h8 : (ra_ok x4 x5 ∧ x8 = 1) ∨ (¬ ra_ok x4 x5 ∧ x8 = 0)) (k : ra_K (ra_d1 x0 x1 x2) w) :
    wL_lawOf_85 post 7 2080 x0 x1 x2 x3 x4 x5 x6 x7 x8 w 0 0 := by
  rcases h7 with ⟨hs, e7⟩ | ⟨hs, e7⟩
  · refine br_f (by rw [e7]; decide) (br_c (fun c => ?_) (fun c => ?_))
    · exact ra_103 hp h6 (Or.inl ⟨hs, e7⟩) h8 (ra_s2 k hs c)
    · exact ra_103 hp h6 (Or.inl ⟨hs, e7⟩) h8 (ra_s1 k hs c)
  · exact br_t e7 (ra_103 hp h6 (Or.inr ⟨hs, e7⟩) h8 (ra_sn k hs))
theorem ra_68 (hp : post 1 ()) (h6 : (ra_rng x0 x1 x2 ∧ x6 = 1) ∨ (¬ ra_rng x0 x1 x2 ∧ x6 = 0)) (h7 : (ra_set x3 ∧ x7 = 1) ∨ (¬ ra_set x3 ∧ x7 = 0))
    (h8 : (ra_ok x4 x5 ∧ x8 = 1) ∨ (¬ ra_ok x4 x5 ∧ x8 = 0)) : wL_lawOf_68 post 7 2080 x0 x1 x2 x3 x4 x5 x6 x7 x8 0 0 := by
  rcases h6 with ⟨hr, e6⟩ | ⟨hr, e6⟩
  · exact br_f (by rw [e6]; decide) (ra_85 hp (Or.inl ⟨hr, e6⟩) h7 h8 (ra_kd (Or.inl ⟨hr, rfl⟩)))
  · exact br_t e6 (ra_85 hp (Or.inr ⟨hr, e6⟩) h7 h8 (ra_kd (Or.inr ⟨hr, rfl⟩)))
theorem ra_45 (hp : post 1 ()) (h6 : (ra_rng x0 x1 x2 ∧ x6 = 1) ∨ (¬ ra_rng x0 x1 x2 ∧ x6 = 0)) (h7 : (ra_set x3 ∧ x7 = 1) ∨ (¬ ra_set x3 ∧ x7 = 0)) :
    wL_lawOf_45 post 7 2080 x0 x1 x2 x3 x4 x5 x6 x7 0 0 :=
  br_c (fun c => br_c (fun c1 => ra_68 hp h6 h7 (Or.inl ⟨⟨c, Or.inl c1⟩, rfl⟩)) (fun c1 => br_c (fun c2 => ra_68 hp h6 h7 (Or.inl ⟨⟨c, Or.inr c2⟩, rfl⟩))
      (fun c2 => ra_68 hp h6 h7 (Or.inr ⟨fun t => t.2.elim c1 c2, rfl⟩))))
    (fun c => ra_68 hp h6 h7 (Or.inr ⟨fun t => c t.1, rfl⟩))
theorem ra_29 (hp : post 1 ()) (h6 : (ra_rng x0 x1 x2 ∧ x6 = 1) ∨ (¬ ra_rng x0 x1 x2 ∧ x6 = 0)) : wL_lawOf_29 post 7 2080 x0 x1 x2 x3 x4 x5 x6 0 0 :=
  br_c (fun c => ra_45 hp h6 (Or.inr ⟨fun t => t.1 c, rfl⟩)) (fun c => br_c (fun c1 => ra_45 hp h6 (Or.inr ⟨fun t => t.2 c1, rfl⟩)) (fun c1 => ra_45 hp h6 (Or.inl ⟨⟨c, c1⟩, rfl⟩)))
theorem ra_law (hp : post 1 ()) : wpL_lawOf post 7 2080 () x0 x1 x2 x3 x4 x5 :=
  br_c (fun c => ra_29 hp (Or.inr ⟨fun t => t.1 c, rfl⟩)) (fun c0 => br_c (fun c => ra_29 hp (Or.inr ⟨fun t => t.2.1 c, rfl⟩))
    (fun c1 => br_c (fun c => ra_29 hp (Or.inr ⟨fun t => t.2.2.1 c, rfl⟩)) (fun c2 => br_c (fun c => ra_29 hp (Or.inr ⟨fun t => t.2.2.2.1 c, rfl⟩))
      (fun c3 => br_c (fun c => ra_29 hp (Or.inr ⟨fun t => t.2.2.2.2 c, rfl⟩)) (fun c4 => ra_29 hp (Or.inl ⟨⟨c0, c1, c2, c3, c4⟩, rfl⟩))))))
end
theorem ra_cell {post : Int32 → Prop} {xs : Nat → Int32} {L : Nat} (hL : L ≤ 6) (k : Nat) (hk : k < 6) (h : ∀ r, post r) : wpL_cellAt post L xs () (nI k) := by
  refine br_c (fun _ => h _) (fun c => ⟨vp_in_nI ?_ (by omega), h _⟩)
  rcases Nat.lt_or_ge k L with z | z
  · exact z
  · exact absurd (nI_le z (by omega)) c
theorem i_vc (xs : Nat → Int32) (L : Nat) (hL : L ≤ 6) : wpL_law (fun r => r = 1) L xs :=
  ra_cell hL 0 (by omega) (fun _ => ra_cell hL 1 (by omega) (fun _ => ra_cell hL 2 (by omega) (fun _ => ra_cell hL 3 (by omega) (fun _ => ra_cell hL 4 (by omega) (fun _ => ra_cell hL 5 (by omega) (fun _ =>
    ⟨7, 2080, by omega, by omega, ra_law rfl⟩))))))
end
