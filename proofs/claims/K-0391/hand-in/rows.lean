section
/-- what a display register, a saved entry and the top may hold: -1 to 8 -/
def dr_S (x : Int32) : Prop := -1 ≤ x.toInt ∧ x.toInt ≤ 8
theorem dr_l0 : (0 : Int32).toInt = 0 := by decide
theorem dr_l1 : (1 : Int32).toInt = 1 := by decide
theorem dr_l3 : (3 : Int32).toInt = 3 := by decide
theorem dr_l4 : (4 : Int32).toInt = 4 := by decide
theorem dr_l8 : (8 : Int32).toInt = 8 := by decide
/-- a short holds every value of that range as it is -/
theorem dr_sh {x : Int32} (h : dr_S x) : x.toInt16.toInt32 = x :=
  lg_i2s_small (by have := h.1; omega) (by have := h.2; omega)
theorem dr_nar {x : Int32} (h : dr_S x) : vp_nar .short x = x := (vp_nar_short x).trans (dr_sh h)
theorem dr_nar2 {x : Int32} (h : dr_S x) : vp_nar .short x.toInt16.toInt32 = x :=
  (congrArg (vp_nar .short) (dr_sh h)).trans (dr_nar h)
theorem dr_S0 : dr_S 0 := by unfold dr_S; rw [dr_l0]; omega
theorem dr_Sm : dr_S (-1) := by
  have e : (-1 : Int32).toInt = -1 := by decide
  unfold dr_S; rw [e]; omega
/-- a level between 0 and 3 is an index of a table of four -/
theorem dr_lv {x : Int32} (h0 : ¬ x < 0) (h3 : x ≤ 3) : vp_in x 4 := by
  rw [Int32.lt_iff_toInt_lt, dr_l0] at h0
  rw [Int32.le_iff_toInt_le, dr_l3] at h3
  rw [vp_in_iff]; omega
theorem dr_in4 {x : Int32} (h : 0 ≤ x.toInt ∧ x.toInt < 4) : vp_in x 4 := by
  rw [vp_in_iff]; omega
/-- the depth's two guards: below four, not four -/
theorem dr_d4 {d : Int32} (hd : 0 ≤ d.toInt ∧ d.toInt ≤ 4) (h : d < 4) : vp_in d 4 ∧ ¬ d = 4 ∧ 0 ≤ (d + 1).toInt ∧ (d + 1).toInt ≤ 4 := by
  rw [Int32.lt_iff_toInt_lt, dr_l4] at h
  have e : (d + 1).toInt = d.toInt + (1 : Int32).toInt := Jvm.Kit.i32_add (by rw [dr_l1]; omega) (by rw [dr_l1]; omega)
  rw [dr_l1] at e
  refine ⟨by rw [vp_in_iff]; omega, ?_, by omega, by omega⟩
  intro z
  rw [z, dr_l4] at h
  omega
theorem dr_e4 {d : Int32} (hd : 0 ≤ d.toInt ∧ d.toInt ≤ 4) (h : ¬ d < 4) : d = 4 := by
  rw [Int32.lt_iff_toInt_lt, dr_l4] at h
  apply Int32.toInt_inj.mp
  rw [dr_l4]; omega
/-- above nought, not nought -/
theorem dr_d0 {d : Int32} (hd : 0 ≤ d.toInt ∧ d.toInt ≤ 4) (h : 0 < d) : vp_in (d - 1) 4 ∧ ¬ d = 0 ∧ 0 ≤ (d - 1).toInt ∧ (d - 1).toInt ≤ 4 := by
  rw [Int32.lt_iff_toInt_lt, dr_l0] at h
  have e : (d - 1).toInt = d.toInt - (1 : Int32).toInt := Jvm.Kit.i32_sub (by rw [dr_l1]; omega) (by rw [dr_l1]; omega)
  rw [dr_l1] at e
  refine ⟨by rw [vp_in_iff]; omega, ?_, by omega, by omega⟩
  intro z
  rw [z, dr_l0] at h
  omega
theorem dr_e0 {d : Int32} (hd : 0 ≤ d.toInt ∧ d.toInt ≤ 4) (h : ¬ 0 < d) : d = 0 := by
  rw [Int32.lt_iff_toInt_lt, dr_l0] at h
  apply Int32.toInt_inj.mp
  rw [dr_l0]; omega
/-- the new top stays in the range -/
theorem dr_top {t s : Int32} (ht : dr_S t) (h0 : ¬ s < 0) (h : s ≤ 8 - t) : dr_S (t + s) := by
  obtain ⟨t1, t2⟩ := ht
  rw [Int32.lt_iff_toInt_lt, dr_l0] at h0
  have e : ((8 : Int32) - t).toInt = (8 : Int32).toInt - t.toInt := Jvm.Kit.i32_sub (by rw [dr_l8]; omega) (by rw [dr_l8]; omega)
  rw [dr_l8] at e
  rw [Int32.le_iff_toInt_le, e] at h
  have f : (t + s).toInt = t.toInt + s.toInt := Jvm.Kit.i32_add (by omega) (by omega)
  unfold dr_S
  rw [f]; omega
/-- a cell below the top is a cell of the eight -/
theorem dr_cell {t x o : Int32} (ht : dr_S t) (hx : dr_S x) (hx0 : 0 ≤ x) (h0 : ¬ o < 0) (h : o < t - x) : vp_in (x + o) 8 := by
  obtain ⟨t1, t2⟩ := ht
  obtain ⟨x1, x2⟩ := hx
  rw [Int32.le_iff_toInt_le, dr_l0] at hx0
  rw [Int32.lt_iff_toInt_lt, dr_l0] at h0
  have e : (t - x).toInt = t.toInt - x.toInt := Jvm.Kit.i32_sub (by omega) (by omega)
  rw [Int32.lt_iff_toInt_lt, e] at h
  have f : (x + o).toInt = x.toInt + o.toInt := Jvm.Kit.i32_add (by omega) (by omega)
  rw [vp_in_iff, f]; omega
/-- a store of a good value keeps a table good -/
theorem dr_upd {P : Int32 → Prop} {f : Nat → Int32} {k : Nat} {x : Int32} (h : ∀ j, P (f j)) (hx : P x) : ∀ j, P (upd f k x j) := by
  intro j
  unfold upd
  by_cases e : j = k
  · rw [if_pos e]; exact hx
  · rw [if_neg e]; exact h j
/-- the display behind the constructors -/
def dr_i0 : Nat → Int32 := fun j => if j < 4 then -1 else 0
theorem dr_i0S : ∀ j, dr_S (dr_i0 j) := by
  intro j
  unfold dr_i0
  by_cases e : j < 4
  · rw [if_pos e]; exact dr_Sm
  · rw [if_neg e]; exact dr_S0
theorem dr_u0 (f : Nat → Int32) (k j : Nat) (x : Int32) : upd f k x j = if j = k then x else f j := rfl
theorem dr_iX : upd (upd (upd (upd (fun _ => 0) 0 (-1)) 1 (-1)) 2 (-1)) 3 (-1) = dr_i0 := by
  funext j
  unfold dr_i0
  rw [dr_u0, dr_u0, dr_u0, dr_u0]
  by_cases e3 : j = 3
  · rw [if_pos e3, if_pos (by omega)]
  by_cases e2 : j = 2
  · rw [if_neg e3, if_pos e2, if_pos (by omega)]
  by_cases e1 : j = 1
  · rw [if_neg e3, if_neg e2, if_pos e1, if_pos (by omega)]
  by_cases e0 : j = 0
  · rw [if_neg e3, if_neg e2, if_neg e1, if_pos e0, if_pos (by omega)]
  rw [if_neg e3, if_neg e2, if_neg e1, if_neg e0, if_neg (by omega)]
theorem dr_iY : upd (upd (upd (upd (fun _ => 0) 3 (-1)) 2 (-1)) 1 (-1)) 0 (-1) = dr_i0 := by
  funext j
  unfold dr_i0
  rw [dr_u0, dr_u0, dr_u0, dr_u0]
  by_cases e0 : j = 0
  · rw [if_pos e0, if_pos (by omega)]
  by_cases e1 : j = 1
  · rw [if_neg e0, if_pos e1, if_pos (by omega)]
  by_cases e2 : j = 2
  · rw [if_neg e0, if_neg e1, if_pos e2, if_pos (by omega)]
  by_cases e3 : j = 3
  · rw [if_neg e0, if_neg e1, if_neg e2, if_pos e3, if_pos (by omega)]
  rw [if_neg e0, if_neg e1, if_neg e2, if_neg e3, if_neg (by omega)]
end
section
/-- the two objects hold the same tables, top and depth; every entry is in its range -/
def i_Rel (_ : Nat) (u : SX) (v : SY) : Prop :=
  ∃ (t d : Int32) (da di sl se : Nat → Int32), u = (t, d, da, di, sl, se) ∧ v = (d, t, di, se, sl, da) ∧ dr_S t ∧ (0 ≤ d.toInt ∧ d.toInt ≤ 4) ∧ (∀ j, dr_S (di j)) ∧ (∀ j, dr_S (se j)) ∧ (∀ j, 0 ≤ (sl j).toInt ∧ (sl j).toInt < 4)
theorem i_up {k : Nat} {u : SX} {v : SY} (h : i_Rel k u v) : i_Rel (k + 4) u v := h
theorem dr_mk (k : Nat) {t d : Int32} {da di sl se : Nat → Int32} (ht : dr_S t) (hd : 0 ≤ d.toInt ∧ d.toInt ≤ 4) (hdi : ∀ j, dr_S (di j)) (hse : ∀ j, dr_S (se j)) (hsl : ∀ j, 0 ≤ (sl j).toInt ∧ (sl j).toInt < 4) : i_Rel k (t, d, da, di, sl, se) (d, t, di, se, sl, da) :=
  ⟨t, d, da, di, sl, se, rfl, rfl, ht, hd, hdi, hse, hsl⟩
theorem dr_ini (post : SX → Prop) (h : post (0, 0, fun _ => 0, dr_i0, fun _ => 0, fun _ => 0)) : wpX_init post := by
  rw [← dr_iX] at h
  refine ⟨5, ?_⟩
  refine br_f (by decide) (And.intro (vp_in_iff.mpr (by decide)) (nm_e (nm_r (e' := 1) (by decide) ?_)))
  refine br_f (by decide) (And.intro (vp_in_iff.mpr (by decide)) (nm_e (nm_r (e' := 2) (by decide) ?_)))
  refine br_f (by decide) (And.intro (vp_in_iff.mpr (by decide)) (nm_e (nm_r (e' := 3) (by decide) ?_)))
  refine br_f (by decide) (And.intro (vp_in_iff.mpr (by decide)) (nm_e (nm_r (e' := 4) (by decide) ?_)))
  exact br_t (by decide) h
theorem i_vc0 : wpX_init (fun u => wpY_init (fun v => i_Rel 0 u v)) := by
  apply dr_ini
  unfold wpY_init
  rw [dr_nar dr_Sm]
  intro a ea b eb c ec d ed
  rw [ec, eb, ea, dr_iY] at ed
  subst ed
  exact dr_mk 0 dr_S0 (by decide) dr_i0S (fun _ => dr_S0) (fun _ => by rw [dr_l0]; omega)
theorem i_vc_enter {k : Nat} {u : SX} {v : SY} (I : i_Rel k u v) (hk : k + 4 ≤ 2048) (v1 : Int32) (v2 : Int32) : wpX_enter (fun r u' => wpY_enter (fun r' v' => r' = r ∧ i_Rel (k + 4) u' v') v v1 v2) u v1 v2 := by
  obtain ⟨t, d, da, di, sl, se, rfl, rfl, ht, hd, hdi, hse, hsl⟩ := I
  have R : i_Rel (k + 4) (t, d, da, di, sl, se) (d, t, di, se, sl, da) := dr_mk _ ht hd hdi hse hsl
  unfold wpX_enter wpY_enter
  dsimp only
  by_cases h0 : v1 < 0
  · exact br_t h0 (br_t h0 ⟨rfl, R⟩)
  by_cases h3 : v1 ≤ 3
  · by_cases s0 : v2 < 0
    · exact br_f h0 (br_t h3 (br_t s0 (br_f h0 (br_t h3 (br_t s0 ⟨rfl, R⟩)))))
    by_cases s8 : v2 ≤ 8 - t
    · by_cases d4 : d < 4
      · have hi : vp_in v1 4 := dr_lv h0 h3
        obtain ⟨hj, n4, hd'⟩ := dr_d4 hd d4
        refine br_f h0 (br_t h3 (br_f s0 (br_t s8 (br_t d4 ⟨hj, nm_e ⟨hi, hj, nm_e (nm_e ⟨hi, nm_e (nm_e ⟨hi, ?_⟩)⟩)⟩⟩))))
        refine br_f h0 (br_t h3 (br_f s0 (br_t s8 (br_f n4 ⟨hi, hj, nm_r (congrArg (upd se d.toNatClampNeg) (dr_nar (hdi _))) (nm_e ⟨hj, nm_e ⟨hi, nm_r (congrArg (upd di v1.toNatClampNeg) (dr_nar2 ht)) (nm_e ⟨hi, rfl, ?_⟩)⟩⟩)⟩))))
        exact dr_mk _ (dr_top ht s0 s8) hd' (dr_upd (P := dr_S) hdi ht) (dr_upd (P := dr_S) hse (hdi _)) (dr_upd (P := fun x => 0 ≤ x.toInt ∧ x.toInt < 4) hsl (vp_in_iff.mp hi))
      · exact br_f h0 (br_t h3 (br_f s0 (br_t s8 (br_f d4 (br_f h0 (br_t h3 (br_f s0 (br_t s8 (br_t (dr_e4 hd d4) ⟨rfl, R⟩)))))))))
    · exact br_f h0 (br_t h3 (br_f s0 (br_f s8 (br_f h0 (br_t h3 (br_f s0 (br_f s8 ⟨rfl, R⟩)))))))
  · exact br_f h0 (br_f h3 (br_f h0 (br_f h3 ⟨rfl, R⟩)))
theorem i_vc_exit {k : Nat} {u : SX} {v : SY} (I : i_Rel k u v) (hk : k + 4 ≤ 2048) : wpX_exit (fun r u' => wpY_exit (fun r' v' => r' = r ∧ i_Rel (k + 4) u' v') v) u := by
  obtain ⟨t, d, da, di, sl, se, rfl, rfl, ht, hd, hdi, hse, hsl⟩ := I
  have R : i_Rel (k + 4) (t, d, da, di, sl, se) (d, t, di, se, sl, da) := dr_mk _ ht hd hdi hse hsl
  unfold wpX_exit wpY_exit
  dsimp only
  by_cases dp : 0 < d
  · obtain ⟨hj, n0, hd'⟩ := dr_d0 hd dp
    have hi : vp_in (sl (d - 1).toNatClampNeg) 4 := dr_in4 (hsl _)
    refine br_t dp (nm_e ⟨hj, nm_e ⟨hj, nm_e ⟨hi, nm_e ⟨hi, nm_e ?_⟩⟩⟩⟩)
    refine br_f n0 (nm_e ⟨hj, nm_e ⟨hi, nm_e ⟨hj, hi, nm_r (congrArg (upd di (sl (d - 1).toNatClampNeg).toNatClampNeg) (dr_nar (hse _))) ⟨rfl, ?_⟩⟩⟩⟩)
    exact dr_mk _ (hdi _) hd' (dr_upd (P := dr_S) hdi (hse _)) hse hsl
  · exact br_f dp (br_t (dr_e0 hd dp) ⟨rfl, R⟩)
theorem i_vc_load {k : Nat} {u : SX} {v : SY} (I : i_Rel k u v) (hk : k + 4 ≤ 2048) (v1 : Int32) (v2 : Int32) : wpX_load (fun r => wpY_load (fun r' => r' = r ∧ i_Rel (k + 4) u v) v v1 v2) u v1 v2 := by
  obtain ⟨t, d, da, di, sl, se, rfl, rfl, ht, hd, hdi, hse, hsl⟩ := I
  have R : i_Rel (k + 4) (t, d, da, di, sl, se) (d, t, di, se, sl, da) := dr_mk _ ht hd hdi hse hsl
  unfold wpX_load wpY_load
  dsimp only
  by_cases h0 : v1 < 0
  · exact br_t h0 (br_t h0 ⟨rfl, R⟩)
  by_cases h3 : v1 ≤ 3
  · have hi : vp_in v1 4 := dr_lv h0 h3
    by_cases e0 : 0 ≤ di v1.toNatClampNeg
    · by_cases o0 : v2 < 0
      · exact br_f h0 (br_t h3 ⟨hi, nm_e (br_t e0 (br_t o0 (br_f h0 (br_t h3 ⟨hi, nm_e (br_t e0 (br_t o0 ⟨rfl, R⟩))⟩))))⟩)
      by_cases o1 : v2 < t - di v1.toNatClampNeg
      · have hc : vp_in (di v1.toNatClampNeg + v2) 8 := dr_cell ht (hdi _) e0 o0 o1
        exact br_f h0 (br_t h3 ⟨hi, nm_e (br_t e0 (br_f o0 (br_t o1 ⟨hc, br_f h0 (br_t h3 ⟨hi, nm_e (br_t e0 (br_f o0 (br_t o1 ⟨hc, rfl, R⟩)))⟩)⟩)))⟩)
      · exact br_f h0 (br_t h3 ⟨hi, nm_e (br_t e0 (br_f o0 (br_f o1 (br_f h0 (br_t h3 ⟨hi, nm_e (br_t e0 (br_f o0 (br_f o1 ⟨rfl, R⟩)))⟩)))))⟩)
    · exact br_f h0 (br_t h3 ⟨hi, nm_e (br_f e0 (br_f h0 (br_t h3 ⟨hi, nm_e (br_f e0 ⟨rfl, R⟩)⟩)))⟩)
  · exact br_f h0 (br_f h3 (br_f h0 (br_f h3 ⟨rfl, R⟩)))
theorem i_vc_store {k : Nat} {u : SX} {v : SY} (I : i_Rel k u v) (hk : k + 4 ≤ 2048) (v1 : Int32) (v2 : Int32) (v3 : Int32) : wpX_store (fun r u' => wpY_store (fun r' v' => r' = r ∧ i_Rel (k + 4) u' v') v v1 v2 v3) u v1 v2 v3 := by
  obtain ⟨t, d, da, di, sl, se, rfl, rfl, ht, hd, hdi, hse, hsl⟩ := I
  have R : ∀ b : Nat → Int32, i_Rel (k + 4) (t, d, b, di, sl, se) (d, t, di, se, sl, b) := fun b => dr_mk _ ht hd hdi hse hsl
  unfold wpX_store wpY_store
  dsimp only
  by_cases h0 : v1 < 0
  · exact br_t h0 (br_t h0 ⟨rfl, R _⟩)
  by_cases h3 : v1 ≤ 3
  · have hi : vp_in v1 4 := dr_lv h0 h3
    by_cases e0 : 0 ≤ di v1.toNatClampNeg
    · by_cases o0 : v2 < 0
      · exact br_f h0 (br_t h3 ⟨hi, nm_e (br_t e0 (br_t o0 (br_f h0 (br_t h3 ⟨hi, nm_e (br_t e0 (br_t o0 ⟨rfl, R _⟩))⟩))))⟩)
      by_cases o1 : v2 < t - di v1.toNatClampNeg
      · have hc : vp_in (di v1.toNatClampNeg + v2) 8 := dr_cell ht (hdi _) e0 o0 o1
        exact br_f h0 (br_t h3 ⟨hi, nm_e (br_t e0 (br_f o0 (br_t o1 ⟨hc, nm_e (br_f h0 (br_t h3 ⟨hi, nm_e (br_t e0 (br_f o0 (br_t o1 ⟨hc, nm_e ⟨rfl, R _⟩⟩)))⟩))⟩)))⟩)
      · exact br_f h0 (br_t h3 ⟨hi, nm_e (br_t e0 (br_f o0 (br_f o1 (br_f h0 (br_t h3 ⟨hi, nm_e (br_t e0 (br_f o0 (br_f o1 ⟨rfl, R _⟩)))⟩)))))⟩)
    · exact br_f h0 (br_t h3 ⟨hi, nm_e (br_f e0 (br_f h0 (br_t h3 ⟨hi, nm_e (br_f e0 ⟨rfl, R _⟩)⟩)))⟩)
  · exact br_f h0 (br_f h3 (br_f h0 (br_f h3 ⟨rfl, R _⟩)))
end
