section
/-! plain rows -/
/-- what a finish at t costs under the rule k, d, w -/
def sj_cost (k d w t : Int32) : Int32 := if k = 1 then w * (t - d) else if 0 < t - d then (if k = 0 then w * (t - d) else if k = 2 then 20 * w else 1000) else 0
/-- what counts at the moment for job 0 -/
def sj_now (fo fb c t : Int32) : Int32 := if (0 : Int32) = fo ∧ ¬ t ≤ fb then 100000 else c
/-- the cap as the maker clamps it -/
def sj_clamp (x : Int32) : Int32 := if (-200) ≤ x then (if x ≤ 1000 then x else 1000) else (-200)
theorem sj_c1 {k d w t : Int32} (h : k = 1) : sj_cost k d w t = w * (t - d) := if_pos h
theorem sj_c0 {k d w t : Int32} (h : ¬ k = 1) (h1 : 0 < t - d) (h2 : k = 0) : sj_cost k d w t = w * (t - d) := by
  unfold sj_cost
  rw [if_neg h, if_pos h1, if_pos h2]
theorem sj_c2 {k d w t : Int32} (h : ¬ k = 1) (h1 : 0 < t - d) (h2 : ¬ k = 0) (h3 : k = 2) : sj_cost k d w t = 20 * w := by
  unfold sj_cost
  rw [if_neg h, if_pos h1, if_neg h2, if_pos h3]
theorem sj_c3 {k d w t : Int32} (h : ¬ k = 1) (h1 : 0 < t - d) (h2 : ¬ k = 0) (h3 : ¬ k = 2) : sj_cost k d w t = 1000 := by
  unfold sj_cost
  rw [if_neg h, if_pos h1, if_neg h2, if_neg h3]
theorem sj_c4 {k d w t : Int32} (h : ¬ k = 1) (h1 : ¬ 0 < t - d) : sj_cost k d w t = 0 := by
  unfold sj_cost
  rw [if_neg h, if_neg h1]
theorem sj_nowf {fb c t : Int32} : sj_now (-1) fb c t = c := if_neg (fun h => absurd h.1 (by decide))
theorem sj_now1 {fo fb c t : Int32} (h : (0 : Int32) = fo) (h2 : ¬ t ≤ fb) : sj_now fo fb c t = 100000 := if_pos ⟨h, h2⟩
theorem sj_now2 {fo fb c t : Int32} (h2 : t ≤ fb) : sj_now fo fb c t = c := if_neg (fun h => h.2 h2)
theorem sj_now3 {fo fb c t : Int32} (h : ¬ (0 : Int32) = fo) : sj_now fo fb c t = c := if_neg (fun z => h z.1)
theorem sj_z : ∀ i, i < 5 → ((0 : Int32) >>> (nI i &&& 31)) &&& 1 = 0 := by decide +kernel
theorem sj_o : ∀ i, i < 5 → 0 < i → ((1 : Int32) >>> (nI i &&& 31)) &&& 1 = 0 := by decide +kernel
theorem sj_0and (s : Int32) : (0 : Int32) &&& s = 0 := by simp
theorem sj_u {f : Nat → Int32} {x : Int32} : upd f (0 : Int32).toNatClampNeg x 0 = x := by
  rw [sb_cl0]
  exact pk_us
theorem sj_i0 : vp_in (0 : Int32) 5 := pk_in 0 5 (by omega)
theorem sj_clB {P : Int32 → Prop} {x : Int32} (H : P (sj_clamp x)) : ((-200) ≤ x → ((x ≤ 1000 → P x) ∧ (¬ x ≤ 1000 → P 1000))) ∧ (¬ (-200) ≤ x → P (-200)) := by
  unfold sj_clamp at H
  refine br_c (fun h => br_c (fun h2 => ?_) (fun h2 => ?_)) (fun h => ?_)
  · rw [if_pos h, if_pos h2] at H
    exact H
  · rw [if_pos h, if_neg h2] at H
    exact H
  · rw [if_neg h] at H
    exact H
theorem sj_cl_lt (x : Int32) : sj_clamp x < 100000 := by
  unfold sj_clamp
  by_cases h : (-200) ≤ x
  · rw [if_pos h]
    by_cases h2 : x ≤ 1000
    · rw [if_pos h2]
      exact Int32.lt_of_le_of_lt h2 (by decide)
    · rw [if_neg h2]
      decide
  · rw [if_neg h]
    decide
theorem sj_nb : ∀ a, a < 31 → (nI a).toInt8.toInt32 = nI a := by decide +kernel
theorem sj_bnd : ∀ m, m < 6 → ∀ k, k < 4 → ∀ d, d < 31 → ∀ w, w < 6 → ¬ sj_cost (nI k) (nI d) (nI w) (nI m) ≤ (-100000) ∧ ¬ 100001 ≤ sj_cost (nI k) (nI d) (nI w) (nI m) := by decide +kernel
theorem sj_late {t : Int32} (h : ¬ t < 0) : sj_cost 0 0 1 t = t := by
  have e : t - 0 = t := Int32.sub_zero t
  by_cases h1 : 0 < t - 0
  · rw [sj_c0 (by decide) h1 rfl, e, Int32.one_mul]
  · rw [sj_c4 (by decide) h1]
    rw [e] at h1
    exact Int32.le_antisymm (Int32.not_lt.mp h) (Int32.not_lt.mp h1)
/-- the rule's numbers are good ones -/
def sj_good (k d w : Int32) : Prop := ¬ k < 0 ∧ ¬ 3 < k ∧ ¬ d < 0 ∧ ¬ 30 < d ∧ ¬ w < 1 ∧ w ≤ 5
theorem sj_goodN {k d w : Int32} (h : sj_good k d w) : ∃ a b c : Nat, a < 4 ∧ b < 31 ∧ c < 6 ∧ k = nI a ∧ d = nI b ∧ w = nI c := by
  obtain ⟨h1, h2, h3, h4, h5, h6⟩ := h
  obtain ⟨a, ha, ea⟩ := nI_of2 (M := 3) (n := 3) (by decide) h1 (Int32.not_lt.mp h2)
  obtain ⟨b, hb, eb⟩ := nI_of2 (M := 30) (n := 30) (by decide) h3 (Int32.not_lt.mp h4)
  obtain ⟨c, hc, ec⟩ := nI_of2 (M := 5) (n := 5) (by decide) (x := w) (fun z => h5 (Int32.lt_trans z (by decide))) h6
  exact ⟨a, b, c, by omega, by omega, by omega, ea, eb, ec⟩
end
section
section
variable {cp cq g fo fb pc be : Int32} {a1 a2 a3 a4 a5 a6 a7 a8 : Nat → Int32}
theorem sj_pf27 {post : St2 → Prop} {x3 : Int32} (H : post (cp, cq, g, fo, fb, pc, be, a1, a2, a3, a4, a5, a6, a7, a8)) : ∃ n, wX_pushFollowers_27 post x3 0 cp cq g fo fb pc be n 0 a1 a2 a3 a4 a5 a6 a7 a8 :=
  pk_loop (σ := Unit) (fun n i _ => wX_pushFollowers_27 post x3 0 cp cq g fo fb pc be n (nI i) a1 a2 a3 a4 a5 a6 a7 a8) (fun _ _ => True) 5 0 () (by omega) trivial
    (fun n _ _ => pk_le 5 5 (fun _ => H) (fun z => absurd z (by omega)))
    (fun n i _ hi _ hw => pk_le 5 i (fun z => absurd z (by omega)) (fun _ => br_t (sj_z i hi) (nm_r (nI_1 i) (hw () trivial))))
theorem sj_pf {post : St2 → Prop} {s : Int32} (h6 : a6 0 = 0) (H : post (cp, cq, g, fo, fb, pc, be, a1, a2, a3, a4, a5, a6, a7, a8)) : wpX_pushFollowers post (cp, cq, g, fo, fb, pc, be, a1, a2, a3, a4, a5, a6, a7, a8) 0 s :=
  ⟨sj_i0, sj_i0, nm_e ⟨sj_i0, nm_r (by rw [sb_cl0, h6]; exact sj_0and s) (sj_pf27 H)⟩⟩
theorem sj_sr34 {post : St2 → Prop} {J : Int32 → Int32 → Int32 → Int32 → Int32 → Int32 → Int32 → Int32 → (Nat → Int32) → (Nat → Int32) → (Nat → Int32) → (Nat → Int32) → (Nat → Int32) → (Nat → Int32) → (Nat → Int32) → (Nat → Int32) → Prop} {s x2 : Int32} (hs : s = 0 ∨ (s = 1 ∧ a6 0 = 0)) (H : J (x2 + 1) cp cq g fo fb pc be a1 a2 a3 a4 a5 a6 a7 a8) : ∃ n, wX_setReady_34 post J s x2 n 0 cp cq g fo fb pc be a1 a2 a3 a4 a5 a6 a7 a8 := by
  refine pk_loop (σ := Unit) (fun n i _ => wX_setReady_34 post J s x2 n (nI i) cp cq g fo fb pc be a1 a2 a3 a4 a5 a6 a7 a8) (fun _ _ => True) 5 0 () (by omega) trivial
    (fun n _ _ => pk_le 5 5 (fun _ => nm_e H) (fun z => absurd z (by omega)))
    (fun n i _ hi _ hw => pk_le 5 i (fun z => absurd z (by omega)) (fun _ => br_c (fun _ => nm_r (nI_1 i) (hw () trivial)) (fun hb => ?_)))
  rcases hs with hs | ⟨hs, h6⟩
  · subst hs
    exact absurd (sj_z i hi) hb
  · subst hs
    by_cases hi0 : 0 < i
    · exact absurd (sj_o i hi hi0) hb
    · have e : i = 0 := by omega
      subst e
      exact sj_pf h6 (nm_r (nI_1 0) (hw () trivial))
theorem sj_sr27 {post : St2 → Prop} {s : Int32} (hs : s = 0 ∨ (s = 1 ∧ a6 0 = 0)) (H : post (cp, cq, g, fo, fb, pc, be, a1, a2, a3, a4, a5, a6, a7, a8)) : ∃ n, wX_setReady_27 post s n 0 cp cq g fo fb pc be a1 a2 a3 a4 a5 a6 a7 a8 :=
  pk_loop (σ := Unit) (fun n i _ => wX_setReady_27 post s n (nI i) cp cq g fo fb pc be a1 a2 a3 a4 a5 a6 a7 a8) (fun _ _ => True) 5 0 () (by omega) trivial
    (fun n _ _ => pk_le 5 5 (fun _ => H) (fun z => absurd z (by omega)))
    (fun n i _ hi _ hw => pk_le 5 i (fun z => absurd z (by omega)) (fun _ => sj_sr34 hs (by rw [nI_1]; exact hw () trivial)))
theorem sj_fill {b f : Nat → Int32} {i : Nat} (hi : i < 5) (h : 0 < i → b 0 = vp_nar .byte (f 0)) : 0 < i + 1 → upd b (nI i).toNatClampNeg (vp_nar .byte (f (nI i).toNatClampNeg)) 0 = vp_nar .byte (f 0) := by
  intro _
  rw [nI_clamp (show i < 2 ^ 31 by omega)]
  by_cases e : i = 0
  · subst e
    exact pk_us
  · rw [pk_un (fun z => e z.symm)]
    exact h (by omega)
theorem sj_sr {post : St2 → Prop} {s : Int32} (hs : s = 0 ∨ (s = 1 ∧ a6 0 = 0)) (H : ∀ b, b 0 = vp_nar .byte (a1 0) → post (cp, cq, g, fo, fb, pc, be, a1, a2, a3, a4, a5, a6, b, a8)) : wpX_setReady post (cp, cq, g, fo, fb, pc, be, a1, a2, a3, a4, a5, a6, a7, a8) s :=
  pk_loop (fun n i b => wX_setReady_2 post s cp cq g fo fb pc be n (nI i) a1 a2 a3 a4 a5 a6 b a8) (fun i b => 0 < i → b 0 = vp_nar .byte (a1 0)) 5 0 a7 (by omega) (fun z => absurd z (by omega))
    (fun n b h => pk_le 5 5 (fun _ => sj_sr27 hs (H b (h (by omega)))) (fun z => absurd z (by omega)))
    (fun n i b hi h hw => pk_le 5 i (fun z => absurd z (by omega)) (fun _ => ⟨pk_in i 5 hi, pk_in i 5 hi, nm_e (nm_r (nI_1 i) (hw _ (sj_fill hi h)))⟩))
theorem sj_eo0 {post : Int32 → Prop} {s : Int32} (hs : s = 0) (H : post (-1)) : wpX_earliestOf post (cp, cq, g, fo, fb, pc, be, a1, a2, a3, a4, a5, a6, a7, a8) s := by
  subst hs
  exact pk_loop (σ := Unit) (fun n i _ => wX_earliestOf_4 post 0 cp cq g fo fb pc be a1 a2 a3 a4 a5 a6 a7 a8 n (-1) (nI i)) (fun _ _ => True) 5 0 () (by omega) trivial
    (fun n _ _ => pk_le 5 5 (fun _ => H) (fun z => absurd z (by omega)))
    (fun n i _ hi _ hw => pk_le 5 i (fun z => absurd z (by omega)) (fun _ => br_t (sj_z i hi) (nm_r (nI_1 i) (hw () trivial))))
theorem sj_eo1 {post : Int32 → Prop} {s : Int32} (hs : s = 1) (H : post 0) : wpX_earliestOf post (cp, cq, g, fo, fb, pc, be, a1, a2, a3, a4, a5, a6, a7, a8) s := by
  subst hs
  refine pk_loop (σ := Int32) (fun n i b => wX_earliestOf_4 post 1 cp cq g fo fb pc be a1 a2 a3 a4 a5 a6 a7 a8 n b (nI i)) (fun i b => (i = 0 → b = -1) ∧ (0 < i → b = 0)) 5 0 (-1) (by omega) ⟨fun _ => rfl, fun z => absurd z (by omega)⟩ ?_ ?_
  · intro n b h
    have e := h.2 (by omega)
    subst e
    exact pk_le 5 5 (fun _ => H) (fun z => absurd z (by omega))
  · intro n i b hi h hw
    refine pk_le 5 i (fun z => absurd z (by omega)) (fun _ => ?_)
    by_cases e : i = 0
    · subst e
      have eb := h.1 rfl
      subst eb
      exact br_f (by decide) (br_t (by decide) (nm_r (nI_1 0) (hw 0 ⟨fun z => absurd z (by omega), fun _ => rfl⟩)))
    · exact br_t (sj_o i hi (by omega)) (nm_r (nI_1 i) (hw b ⟨fun z => absurd z (by omega), fun _ => h.2 (by omega)⟩))
theorem sj_fb {post : Int32 → St2 → Prop} {e : Int32} (h7 : a7 0 = 2) (he : 2 + a2 0 = e) (H : post 1 (cp, cq, g, fo, fb, pc, e, a1, a2, a3, a4, a5, a6, a7, a8)) : wpX_firstBlock post (cp, cq, g, fo, fb, pc, be, a1, a2, a3, a4, a5, a6, a7, a8) 1 :=
  ⟨2, br_f (by decide) (sj_eo1 (by decide) (br_t (by decide) (br_f (by decide) ⟨sj_i0, nm_r (show a7 (0 : Int32).toNatClampNeg = 2 by rw [sb_cl0]; exact h7)
    (br_t rfl (nm_r (e' := 1) (by decide) ⟨sj_i0, nm_r (show 2 + a2 (0 : Int32).toNatClampNeg = e by rw [sb_cl0]; exact he) (nm_r (e' := 1) (by decide)
      (br_f (by decide) (sj_eo0 (by decide) (br_f (by decide) H))))⟩))⟩)))⟩
theorem sj_push {post : St2 → Prop} {s : Int32} (hs : s = 0) (H : post (cp, cq, g, fo, fb, pc, be, a1, a2, a3, a4, a5, a6, a7, a8)) : wpX_push post (cp, cq, g, fo, fb, pc, be, a1, a2, a3, a4, a5, a6, a7, a8) s := br_t hs H
theorem sj_ruled {post : Int32 → Prop} {k d w t : Int32} (h3 : a3 0 = k) (h4 : a4 0 = d) (h5 : a5 0 = w) (H : post (sj_cost k d w t)) : wpX_ruled post (cp, cq, g, fo, fb, pc, be, a1, a2, a3, a4, a5, a6, a7, a8) 0 t := by
  subst h3 h4 h5
  refine ⟨sj_i0, nm_e ⟨sj_i0, nm_e (br_c (fun e => ⟨sj_i0, ?_⟩) (fun e => br_c (fun e2 => br_c (fun e3 => ⟨sj_i0, ?_⟩) (fun e3 => br_c (fun e4 => ⟨sj_i0, ?_⟩) (fun e4 => ?_))) (fun e2 => ?_)))⟩⟩
  · exact ek_v (P := post) (sj_c1 (k := a3 0) (d := a4 0) (w := a5 0) e).symm H
  · exact ek_v (P := post) (sj_c0 (k := a3 0) (d := a4 0) (w := a5 0) e e2 e3).symm H
  · exact ek_v (P := post) (sj_c2 (k := a3 0) (d := a4 0) (w := a5 0) e e2 e3 e4).symm H
  · exact ek_v (P := post) (sj_c3 (k := a3 0) (d := a4 0) (w := a5 0) e e2 e3 e4).symm H
  · exact ek_v (P := post) (sj_c4 (k := a3 0) (d := a4 0) (w := a5 0) e e2).symm H
theorem sj_cn {post : Int32 → Prop} {k d w t : Int32} (h3 : a3 0 = k) (h4 : a4 0 = d) (h5 : a5 0 = w) (H : post (sj_now fo fb (sj_cost k d w t) t)) : wpX_costNow post (cp, cq, g, fo, fb, pc, be, a1, a2, a3, a4, a5, a6, a7, a8) 0 t :=
  br_c (fun e => br_c (fun l => sj_ruled h3 h4 h5 (ek_v (P := post) (sj_now2 l).symm H)) (fun l => ek_v (P := post) (sj_now1 e l).symm H))
    (fun e => sj_ruled h3 h4 h5 (ek_v (P := post) (sj_now3 e).symm H))
theorem sj_cl {post : Int32 → Prop} {k d w t : Int32} (h3 : a3 0 = k) (h4 : a4 0 = d) (h5 : a5 0 = w) (h6 : a6 0 = 0) (hc : ¬ 100001 ≤ sj_now fo fb (sj_cost k d w t) t) (H : post 0) : wpX_cheapestLast post (cp, cq, g, fo, fb, pc, be, a1, a2, a3, a4, a5, a6, a7, a8) 1 t := by
  refine pk_loop (σ := Int32) (fun n i b => wX_cheapestLast_9 post 1 t cp cq g fo fb pc be a1 a2 a3 a4 a5 a6 a7 a8 n 0 b (nI i)) (fun i b => i = 0 → b = 100001) 5 0 100001 (by omega) (fun _ => rfl) ?_ ?_
  · intro n b _
    exact pk_le 5 5 (fun _ => H) (fun z => absurd z (by omega))
  · intro n i b hi h hw
    refine pk_le 5 i (fun z => absurd z (by omega)) (fun _ => ?_)
    by_cases e : i = 0
    · subst e
      have eb := h rfl
      subst eb
      exact br_f (by decide) (br_f (by decide) ⟨sj_i0, br_t (show a6 (0 : Int32).toNatClampNeg &&& 1 = 0 by rw [sb_cl0, h6]; exact sj_0and 1) (sj_cn h3 h4 h5 (br_f hc (nm_r (nI_1 0) (hw _ (fun z => absurd z (by omega))))))⟩)
    · exact br_t (sj_o i hi (by omega)) (br_t rfl (nm_r (nI_1 i) (hw b (fun z => absurd z (by omega)))))
/-- job 0 as the arrays hold it -/
def sj_S (p k d w : Int32) (a1 a2 a3 a4 a5 a6 : Nat → Int32) : Prop := a1 0 = 2 ∧ a2 0 = p ∧ a3 0 = k ∧ a4 0 = d ∧ a5 0 = w ∧ a6 0 = 0
theorem sj_rdy {b : Nat → Int32} (h1 : a1 0 = 2) (h : b 0 = vp_nar .byte (a1 0)) : b 0 = 2 := by
  rw [h, h1, vp_nar_byte]
  decide
theorem sj_lw {post : Int32 → St2 → Prop} {p k d w c e : Int32} (hS : sj_S p k d w a1 a2 a3 a4 a5 a6) (he : 2 + p = e) (hc : sj_now fo fb (sj_cost k d w e) e = c) (c1 : ¬ c ≤ (-100000)) (c2 : ¬ 100001 ≤ c) (H : ∀ b7 b8, post c (cp, cq, g, fo, fb, 0, e, a1, a2, a3, a4, a5, a6, b7, b8)) : wpX_leastWorst post (cp, cq, g, fo, fb, pc, be, a1, a2, a3, a4, a5, a6, a7, a8) 1 := by
  obtain ⟨h1, h2, h3, h4, h5, h6⟩ := hS
  subst hc
  refine sj_sr (Or.inr ⟨rfl, h6⟩) (fun b hb => nm_e ⟨2, br_f (by decide) (br_f (by decide) (nm_r (e' := 0) (by decide) ⟨pk_in 0 16 (by omega), nm_r (e' := 1) ?_
    (sj_fb (sj_rdy h1 hb) (by rw [h2]; exact he) (sj_push (by decide) (sj_cl h3 h4 h5 h6 c2 (sj_cn h3 h4 h5 (br_f c1 (sj_push (by decide) (nm_r (e' := 1) (by decide)
      (br_f (by decide) (br_t (by decide) (H b _))))))))))⟩))⟩)
  rw [sb_cl0, pk_us]
  decide
theorem sj_wc {post : Int32 → St2 → Prop} {p k d w c e : Int32} (hS : sj_S p k d w a1 a2 a3 a4 a5 a6) (he : 2 + p = e) (hc : sj_now fo fb (sj_cost k d w e) e = c) (c1 : ¬ c ≤ (-100000)) (c2 : ¬ 100001 ≤ c) (H : ∀ b7 b8, (cq < c → post 0 (cp, cq, 1, fo, fb, 0, e, a1, a2, a3, a4, a5, a6, b7, b8)) ∧ (¬ cq < c → post 1 (cp, cq, 1, fo, fb, 0, e, a1, a2, a3, a4, a5, a6, b7, b8))) : wpX_withinCap post (cp, cq, 1, fo, fb, pc, be, a1, a2, a3, a4, a5, a6, a7, a8) :=
  br_f (by decide) (sj_lw hS he hc c1 c2 H)
end
end
section
section
variable {cq fb pc be : Int32} {a1 a2 a3 a4 a5 a6 a7 a8 : Nat → Int32}
theorem sj_2 (m : Nat) : 2 + nI m = nI (2 + m) := nI_add 2 m
/-- the cost at the end, under a good rule, lies between the two guards -/
theorem sj_gb {k d w : Int32} {m : Nat} (hm3 : m ≤ 3) (h : sj_good k d w) : ¬ sj_cost k d w (nI (2 + m)) ≤ (-100000) ∧ ¬ 100001 ≤ sj_cost k d w (nI (2 + m)) := by
  obtain ⟨a, b, c, ha, hb, hc, rfl, rfl, rfl⟩ := sj_goodN h
  exact sj_bnd (2 + m) (by omega) a ha b hb c hc
theorem sj_good0 : sj_good 0 0 1 := ⟨by decide, by decide, by decide, by decide, by decide, by decide⟩
theorem sj_goodB {k d w : Int32} (h : sj_good k d w) : k.toInt8.toInt32 = k ∧ d.toInt8.toInt32 = d ∧ w.toInt8.toInt32 = w := by
  obtain ⟨a, b, c, ha, hb, hc, rfl, rfl, rfl⟩ := sj_goodN h
  exact ⟨sj_nb a (by omega), sj_nb b hb, sj_nb c (by omega)⟩
theorem sj_lateN {m : Nat} (hm3 : m ≤ 3) : sj_cost 0 0 1 (nI (2 + m)) = nI (2 + m) := sj_late (nI_pos (by omega))
theorem sj_fn {post : Int32 → Prop} (H : post 0) : wpX_freeNumber post (3, cq, 0, (-1), fb, pc, be, a1, a2, a3, a4, a5, a6, a7, a8) :=
  ⟨1, br_f (by decide) (br_t (by decide) H)⟩
theorem sj_rule {post : St2 → Prop} {cp g fo k d w : Int32} (H : ∀ b3 b4 b5, b3 0 = k.toInt8.toInt32 → b4 0 = d.toInt8.toInt32 → b5 0 = w.toInt8.toInt32 → post (cp, cq, g, fo, fb, pc, be, a1, a2, b3, b4, b5, a6, a7, a8)) : wpX_rule post (cp, cq, g, fo, fb, pc, be, a1, a2, a3, a4, a5, a6, a7, a8) 0 k d w :=
  ⟨sj_i0, nm_e ⟨sj_i0, nm_e ⟨sj_i0, nm_e (H _ _ _ sj_u sj_u sj_u)⟩⟩⟩
theorem sj_enter {post : Int32 → St2 → Prop} {m : Nat} (hm3 : m ≤ 3)
    (HR : cq < nI (2 + m) → ∀ pc be a1 a2 a3 a4 a5 a6 a7 a8, post (-3) (3, cq, 0, (-1), fb, pc, be, a1, a2, a3, a4, a5, a6, a7, a8))
    (HA : ¬ cq < nI (2 + m) → ∀ pc be a1 a2 a3 a4 a5 a6 a7 a8, sj_S (nI m) 0 0 1 a1 a2 a3 a4 a5 a6 → post 0 (3, cq, 1, (-1), fb, pc, be, a1, a2, a3, a4, a5, a6, a7, a8)) :
    wpX_enter post (3, cq, 0, (-1), fb, pc, be, a1, a2, a3, a4, a5, a6, a7, a8) 2 (nI m) 0 0 := by
  unfold wpX_enter
  dsimp only
  refine sj_fn (br_t (by decide) ⟨sj_i0, nm_e ⟨sj_i0, nm_e ⟨sj_i0, nm_e (sj_rule (fun b3 b4 b5 e3 e4 e5 => nm_r (e' := 1) (show (0 : Int32) ||| ((1 : Int32) <<< ((0 : Int32) &&& 31)) = 1 by decide) ?_))⟩⟩⟩)
  have B := sj_gb hm3 sj_good0
  have hS : sj_S (nI m) 0 0 1 (upd a1 (0 : Int32).toNatClampNeg (2 : Int32).toInt8.toInt32) (upd a2 (0 : Int32).toNatClampNeg (nI m).toInt8.toInt32) b3 b4 b5 (upd a6 (0 : Int32).toNatClampNeg 0) :=
    ⟨sj_u.trans (by decide), sj_u.trans (sj_nb m (by omega)), e3.trans (by decide), e4.trans (by decide), e5.trans (by decide), sj_u⟩
  refine sj_wc hS (sj_2 m) sj_nowf B.1 B.2 (fun b7 b8 => ?_)
  rw [sj_lateN hm3]
  exact br_c (fun hc => br_t rfl (nm_r (e' := 0) (show (1 : Int32) &&& (((1 : Int32) <<< ((0 : Int32) &&& 31)) ^^^ (-1)) = 0 by decide) (HR hc _ _ _ _ _ _ _ _ _ _))) (fun hc => br_f (by decide) (HA hc _ _ _ _ _ _ _ _ _ _ hS))
theorem sj_add {post : Int32 → St2 → Prop} {m : Nat} (hm1 : 1 ≤ m) (hm3 : m ≤ 3)
    (HR : cq < nI (2 + m) → ∀ pc be a1 a2 a3 a4 a5 a6 a7 a8, post (-3) (3, cq, 0, (-1), fb, pc, be, a1, a2, a3, a4, a5, a6, a7, a8))
    (HA : ¬ cq < nI (2 + m) → ∀ pc be a1 a2 a3 a4 a5 a6 a7 a8, sj_S (nI m) 0 0 1 a1 a2 a3 a4 a5 a6 → post 0 (3, cq, 1, (-1), fb, pc, be, a1, a2, a3, a4, a5, a6, a7, a8)) :
    wpX_add post (3, cq, 0, (-1), fb, pc, be, a1, a2, a3, a4, a5, a6, a7, a8) 2 (nI m) :=
  br_f (by decide) (br_f (by decide) (pk_lt m 1 (fun z => absurd z (by omega)) (fun _ => pk_le m 3 (fun _ => sj_enter hm3 HR HA) (fun z => absurd z (by omega)))))
theorem sj_h1 {post : Int32 → Prop} {fo : Int32} (H : post 1) : wpX_holds post (3, cq, 1, fo, fb, pc, be, a1, a2, a3, a4, a5, a6, a7, a8) 0 :=
  br_f (by decide) (br_f (by decide) (br_f (by decide) H))
theorem sj_h0 {post : Int32 → Prop} {fo : Int32} (H : post 0) : wpX_holds post (3, cq, 0, fo, fb, pc, be, a1, a2, a3, a4, a5, a6, a7, a8) 0 :=
  br_f (by decide) (br_f (by decide) (br_t (by decide) H))
theorem sj_set0 {post : Int32 → St2 → Prop} {fo k d w : Int32} (H : post (-1) (3, cq, 0, fo, fb, pc, be, a1, a2, a3, a4, a5, a6, a7, a8)) : wpX_setRule post (3, cq, 0, fo, fb, pc, be, a1, a2, a3, a4, a5, a6, a7, a8) 0 k d w := by
  unfold wpX_setRule
  dsimp only
  exact sj_h0 (br_t rfl H)
theorem sj_set1 {post : Int32 → St2 → Prop} {k d w : Int32} {m : Nat} (hm3 : m ≤ 3) (hS : sj_S (nI m) 0 0 1 a1 a2 a3 a4 a5 a6)
    (H1 : ¬ sj_good k d w → post (-1) (3, cq, 1, (-1), fb, pc, be, a1, a2, a3, a4, a5, a6, a7, a8))
    (H2 : sj_good k d w → ¬ cq < sj_cost k d w (nI (2 + m)) → ∀ pc be a1 a2 a3 a4 a5 a6 a7 a8, sj_S (nI m) k d w a1 a2 a3 a4 a5 a6 → post 0 (3, cq, 1, (-1), fb, pc, be, a1, a2, a3, a4, a5, a6, a7, a8))
    (H3 : sj_good k d w → cq < sj_cost k d w (nI (2 + m)) → ∀ pc be a1 a2 a3 a4 a5 a6 a7 a8, sj_S (nI m) 0 0 1 a1 a2 a3 a4 a5 a6 → post (-3) (3, cq, 1, (-1), fb, pc, be, a1, a2, a3, a4, a5, a6, a7, a8)) :
    wpX_setRule post (3, cq, 1, (-1), fb, pc, be, a1, a2, a3, a4, a5, a6, a7, a8) 0 k d w := by
  unfold wpX_setRule
  dsimp only
  refine sj_h1 (br_f (by decide) (br_c (fun z => H1 (fun h => h.1 z)) (fun z1 => br_c (fun z => H1 (fun h => h.2.1 z)) (fun z2 => br_c (fun z => H1 (fun h => h.2.2.1 z)) (fun z3 => br_c (fun z => H1 (fun h => h.2.2.2.1 z)) (fun z4 => br_c (fun z => H1 (fun h => h.2.2.2.2.1 z)) (fun z5 => br_c (fun z6 => ?_) (fun z => H1 (fun h => z h.2.2.2.2.2)))))))))
  have G : sj_good k d w := ⟨z1, z2, z3, z4, z5, z6⟩
  have B := sj_gb hm3 G
  obtain ⟨n3, n4, n5⟩ := sj_goodB G
  obtain ⟨h1, h2, h3, h4, h5, h6⟩ := hS
  refine ⟨sj_i0, nm_r (e' := 0) (by rw [sb_cl0]; exact h3) ⟨sj_i0, nm_r (e' := 0) (by rw [sb_cl0]; exact h4) ⟨sj_i0, nm_r (e' := 1) (by rw [sb_cl0]; exact h5) (sj_rule (fun b3 b4 b5 e3 e4 e5 => ?_))⟩⟩⟩
  have S' : sj_S (nI m) k d w a1 a2 b3 b4 b5 a6 := ⟨h1, h2, e3.trans n3, e4.trans n4, e5.trans n5, h6⟩
  exact sj_wc S' (sj_2 m) sj_nowf B.1 B.2 (fun b7 b8 => br_c
    (fun hc => br_t rfl (sj_rule (fun d3 d4 d5 f3 f4 f5 => H3 G hc _ _ _ _ _ _ _ _ _ _ ⟨h1, h2, f3.trans (by decide), f4.trans (by decide), f5.trans (by decide), h6⟩)))
    (fun hc => br_f (by decide) (H2 G hc _ _ _ _ _ _ _ _ _ _ S')))
theorem sj_wo0 {post : Int32 → St2 → Prop} {cp fo : Int32} (H : post (-2000) (cp, cq, 0, fo, fb, pc, be, a1, a2, a3, a4, a5, a6, a7, a8)) : wpX_worst post (cp, cq, 0, fo, fb, pc, be, a1, a2, a3, a4, a5, a6, a7, a8) := br_t rfl H
theorem sj_wo1 {post : Int32 → St2 → Prop} {k d w : Int32} {m : Nat} (hS : sj_S (nI m) k d w a1 a2 a3 a4 a5 a6) (B : ¬ sj_cost k d w (nI (2 + m)) ≤ (-100000) ∧ ¬ 100001 ≤ sj_cost k d w (nI (2 + m)))
    (H : ∀ pc be a7 a8, post (sj_cost k d w (nI (2 + m))) (3, cq, 1, (-1), fb, pc, be, a1, a2, a3, a4, a5, a6, a7, a8)) : wpX_worst post (3, cq, 1, (-1), fb, pc, be, a1, a2, a3, a4, a5, a6, a7, a8) :=
  br_f (by decide) (sj_lw hS (sj_2 m) sj_nowf B.1 B.2 (fun b7 b8 => H _ _ b7 b8))
theorem sj_ef0 {post : Int32 → St2 → Prop} {fo : Int32} (H : post (-2000) (3, cq, 0, fo, fb, pc, be, a1, a2, a3, a4, a5, a6, a7, a8)) : wpX_earliestFinish post (3, cq, 0, fo, fb, pc, be, a1, a2, a3, a4, a5, a6, a7, a8) 0 := by
  unfold wpX_earliestFinish
  dsimp only
  exact sj_h0 (br_t rfl H)
theorem sj_ef25 {post : Int32 → St2 → Prop} {k d w : Int32} {m : Nat} (hm3 : m ≤ 3) (hS : sj_S (nI m) k d w a1 a2 a3 a4 a5 a6) (B : ¬ sj_cost k d w (nI (2 + m)) ≤ (-100000) ∧ ¬ 100001 ≤ sj_cost k d w (nI (2 + m)))
    (hq : cq < 100000) (hc : ¬ cq < sj_cost k d w (nI (2 + m))) (H : ∀ fb pc be a7 a8, post (nI (2 + m)) (3, cq, 1, (-1), fb, pc, be, a1, a2, a3, a4, a5, a6, a7, a8)) :
    ∀ (r l h : Nat) (fb pc be : Int32) (a7 a8 : Nat → Int32), r ≤ 7 → 1 ≤ l → l ≤ 2 + m → 2 + m ≤ h → h ≤ 60 → h - l < 2 ^ r → wX_earliestFinish_25 post (r + 1) (nI l) (nI h) (nI (7 - r)) 3 cq 1 0 fb pc be a1 a2 a3 a4 a5 a6 a7 a8 := by
  intro r
  induction r with
  | zero =>
    intro l h fb pc be a7 a8 _ h1 h2 h3 h4 h5
    have e : l = 2 + m := by omega
    subst e
    exact pk_le 7 7 (fun _ => H fb pc be a7 a8) (fun z => absurd z (by omega))
  | succ r ih =>
    intro l h fb pc be a7 a8 hr h1 h2 h3 h4 h5
    have hp : 2 ^ (r + 1) = 2 * 2 ^ r := Nat.pow_succ'
    have x4 : nI (7 - (r + 1)) + 1 = nI (7 - r) := by rw [nI_1, show 7 - (r + 1) + 1 = 7 - r by omega]
    refine pk_le 7 (7 - (r + 1)) (fun z => absurd z (by omega)) (fun _ => pk_le h l (fun z => ?_) (fun z => nm_r (e' := nI ((l + h) / 2)) ?_ ?_))
    · have e : l = 2 + m := by omega
      subst e
      exact H fb pc be a7 a8
    · rw [nI_add]
      exact pk_shrN (by omega) _ 1 (by decide)
    · refine sj_wc hS (sj_2 m) rfl ?_ ?_ (fun b7 b8 => br_c (fun hl => ?_) (fun hl => ?_))
      · by_cases le : nI (2 + m) ≤ nI ((l + h) / 2)
        · rw [sj_now2 le]
          exact B.1
        · rw [sj_now1 rfl le]
          decide
      · by_cases le : nI (2 + m) ≤ nI ((l + h) / 2)
        · rw [sj_now2 le]
          exact B.2
        · rw [sj_now1 rfl le]
          decide
      · by_cases le : 2 + m ≤ (l + h) / 2
        · rw [sj_now2 (nI_le le (by omega))] at hl
          exact absurd hl hc
        · exact br_t rfl (nm_r (nI_1 _) (nm_r x4 (ih ((l + h) / 2 + 1) h _ _ _ _ _ (by omega) (by omega) (by omega) h3 h4 (by omega))))
      · by_cases le : 2 + m ≤ (l + h) / 2
        · exact br_f (by decide) (nm_r x4 (ih l ((l + h) / 2) _ _ _ _ _ (by omega) h1 h2 le (by omega) (by omega)))
        · rw [sj_now1 rfl (nI_ge (by omega) (by omega))] at hl
          exact absurd hq hl
theorem sj_ef1 {post : Int32 → St2 → Prop} {k d w : Int32} {m : Nat} (hm3 : m ≤ 3) (hS : sj_S (nI m) k d w a1 a2 a3 a4 a5 a6) (B : ¬ sj_cost k d w (nI (2 + m)) ≤ (-100000) ∧ ¬ 100001 ≤ sj_cost k d w (nI (2 + m)))
    (hq : cq < 100000) (hc : ¬ cq < sj_cost k d w (nI (2 + m))) (H : ∀ fb pc be a7 a8, post (nI (2 + m)) (3, cq, 1, (-1), fb, pc, be, a1, a2, a3, a4, a5, a6, a7, a8)) : wpX_earliestFinish post (3, cq, 1, (-1), fb, pc, be, a1, a2, a3, a4, a5, a6, a7, a8) 0 := by
  unfold wpX_earliestFinish
  dsimp only
  exact sj_h1 (br_f (by decide) ⟨8, sj_ef25 hm3 hS B hq hc H 7 1 60 fb pc be a7 a8 (by omega) (by omega) (by omega) (by omega) (by omega) (by omega)⟩)
/-- what costAt answers -/
def sj_at (k d w t : Int32) : Int32 := if t < 0 then (-2000) else if t ≤ 60 then sj_cost k d w t else (-2000)
theorem sj_at1 {k d w t : Int32} (h : t < 0) : sj_at k d w t = (-2000) := if_pos h
theorem sj_at2 {k d w t : Int32} (h : ¬ t < 0) (h2 : t ≤ 60) : sj_at k d w t = sj_cost k d w t := by
  unfold sj_at
  rw [if_neg h, if_pos h2]
theorem sj_at3 {k d w t : Int32} (h : ¬ t < 0) (h2 : ¬ t ≤ 60) : sj_at k d w t = (-2000) := by
  unfold sj_at
  rw [if_neg h, if_neg h2]
theorem sj_ca0 {post : Int32 → Prop} {fo t : Int32} (H : post (-2000)) : wpX_costAt post (3, cq, 0, fo, fb, pc, be, a1, a2, a3, a4, a5, a6, a7, a8) 0 t := by
  unfold wpX_costAt
  dsimp only
  exact sj_h0 (br_t rfl H)
theorem sj_ca1 {post : Int32 → Prop} {fo p k d w t : Int32} (hS : sj_S p k d w a1 a2 a3 a4 a5 a6) (H : post (sj_at k d w t)) : wpX_costAt post (3, cq, 1, fo, fb, pc, be, a1, a2, a3, a4, a5, a6, a7, a8) 0 t := by
  obtain ⟨h1, h2, h3, h4, h5, h6⟩ := hS
  unfold wpX_costAt
  dsimp only
  refine sj_h1 (br_f (by decide) (br_c (fun z => ?_) (fun z => br_c (fun z2 => sj_ruled h3 h4 h5 ?_) (fun z2 => ?_))))
  · rw [sj_at1 z] at H
    exact H
  · rw [sj_at2 z z2] at H
    exact H
  · rw [sj_at3 z z2] at H
    exact H
theorem sj_sp0 {post : Int32 → St2 → Prop} {cp fo : Int32} (H : ∀ a7, post 0 (cp, cq, 0, fo, fb, pc, be, a1, a2, a3, a4, a5, a6, a7, a8)) : wpX_span post (cp, cq, 0, fo, fb, pc, be, a1, a2, a3, a4, a5, a6, a7, a8) := by
  unfold wpX_span
  dsimp only
  exact sj_sr (Or.inl rfl) (fun b _ => ⟨1, br_f (by decide) (br_t rfl (H b))⟩)
theorem sj_sp1 {post : Int32 → St2 → Prop} {cp fo k d w : Int32} {m : Nat} (hS : sj_S (nI m) k d w a1 a2 a3 a4 a5 a6) (H : ∀ be a7, post (nI (2 + m)) (cp, cq, 1, fo, fb, pc, be, a1, a2, a3, a4, a5, a6, a7, a8)) : wpX_span post (cp, cq, 1, fo, fb, pc, be, a1, a2, a3, a4, a5, a6, a7, a8) := by
  obtain ⟨h1, h2, h3, h4, h5, h6⟩ := hS
  unfold wpX_span
  dsimp only
  exact sj_sr (Or.inr ⟨rfl, h6⟩) (fun b hb => ⟨2, br_f (by decide) (br_f (show ¬ (1 : Int32) = 0 by decide) (sj_fb (sj_rdy h1 hb) (show 2 + a2 0 = nI (2 + m) by rw [h2]; exact sj_2 m) (nm_r (e' := 0) (show (1 : Int32) &&& ((1 : Int32) ^^^ (-1)) = 0 by decide) (nm_r (e' := 1) (by decide) (br_f (by decide) (br_t rfl (H _ b)))))))⟩)
theorem sj_init {post : St2 → Prop} {x : Int32} (H : post (3, sj_clamp x, 0, (-1), 0, 0, 0, (fun _ => 0), (fun _ => 0), (fun _ => 0), (fun _ => 0), (fun _ => 0), (fun _ => 0), (fun _ => 0), (fun _ => 0))) : wpX_init post 8 51 (0, 0, 0, 0, 0, 0, 0) 3 x :=
  ⟨by decide, by decide, by decide, by decide, by decide, by decide, by decide, by decide, by decide, by decide, by decide, by decide, by decide, by decide, by decide, by decide, br_t (by decide) (br_t (by decide)
    (sj_clB (P := fun z => post (3, z, 0, (-1), 0, 0, 0, (fun _ => 0), (fun _ => 0), (fun _ => 0), (fun _ => 0), (fun _ => 0), (fun _ => 0), (fun _ => 0), (fun _ => 0))) H))⟩
end
end
section
section
variable {post : Int32 → St0 → Prop} {mc ms kc ks : Nat} {k d w t : Int32}
theorem sj_lc {Q : Int32 → Prop} (H : Q (sj_cost k d w t)) : wpL_cost Q () k d w t := by
  refine nm_e (br_c (fun e => ?_) (fun e => br_c (fun e2 => br_c (fun e3 => ?_) (fun e3 => br_c (fun e4 => ?_) (fun e4 => ?_))) (fun e2 => ?_)))
  · exact ek_v (P := Q) (sj_c1 e).symm H
  · exact ek_v (P := Q) (sj_c0 e e2 e3).symm H
  · exact ek_v (P := Q) (sj_c2 e e2 e3 e4).symm H
  · exact ek_v (P := Q) (sj_c3 e e2 e3 e4).symm H
  · exact ek_v (P := Q) (sj_c4 e e2).symm H
theorem sj_t279 {x9 x10 e x16 x17 x18 v : Int32} (H : post 1 ()) (h : (x16 = 0 ∧ x18 = 0 ∧ x9 = (-1) ∧ x10 = e) ∨ (¬ x16 = 0 ∧ x18 = 0 ∧ x9 = (-3) ∧ x10 = e) ∨ (¬ x16 = 0 ∧ ¬ x18 = 0 ∧ x9 = 0 ∧ x10 = x17)) : wL_lawOf_279 post mc ms 0 x9 x10 e v e e x16 x17 x18 v kc ks := by
  rcases h with ⟨h16, h18, h9, h10⟩ | ⟨h16, h18, h9, h10⟩ | ⟨h16, h18, h9, h10⟩
  · exact br_t rfl (br_t h16 (br_t h9 (br_t h18 (br_t h10 (br_t rfl (br_t rfl (br_t rfl H)))))))
  · exact br_t rfl (br_f h16 (br_t h18 (br_t h9 (br_t h18 (br_t h10 (br_t rfl (br_t rfl (br_t rfl H))))))))
  · exact br_t rfl (br_f h16 (br_f h18 (br_t h9 (br_f h18 (br_t h10 (br_t rfl (br_t rfl (br_t rfl H))))))))
theorem sj_t240a {x9 x10 e x16 x17 : Int32} (H : post 1 ()) (h : (x16 = 0 ∧ x9 = (-1) ∧ x10 = e) ∨ (¬ x16 = 0 ∧ x9 = (-3) ∧ x10 = e)) : wL_lawOf_240 post mc ms k d w t 0 x9 x10 e (sj_at 0 0 1 t) e e x16 x17 0 kc ks := by
  have h' : (x16 = 0 ∧ (0 : Int32) = 0 ∧ x9 = (-1) ∧ x10 = e) ∨ (¬ x16 = 0 ∧ (0 : Int32) = 0 ∧ x9 = (-3) ∧ x10 = e) ∨ (¬ x16 = 0 ∧ ¬ (0 : Int32) = 0 ∧ x9 = 0 ∧ x10 = x17) :=
    h.elim (fun z => Or.inl ⟨z.1, rfl, z.2⟩) (fun z => Or.inr (Or.inl ⟨z.1, rfl, z.2⟩))
  refine br_c (fun z => ?_) (fun z => br_c (fun z2 => br_t rfl ?_) (fun z2 => ?_))
  · rw [sj_at1 z]
    exact sj_t279 H h'
  · rw [sj_at2 z z2, sj_late z]
    exact sj_t279 H h'
  · rw [sj_at3 z z2]
    exact sj_t279 H h'
theorem sj_t240b {e c : Int32} (H : post 1 ()) : wL_lawOf_240 post mc ms k d w t 0 0 c e (sj_at k d w t) e e 1 c 1 kc ks := by
  have h' : ((1 : Int32) = 0 ∧ (1 : Int32) = 0 ∧ (0 : Int32) = (-1) ∧ c = e) ∨ (¬ (1 : Int32) = 0 ∧ (1 : Int32) = 0 ∧ (0 : Int32) = (-3) ∧ c = e) ∨ (¬ (1 : Int32) = 0 ∧ ¬ (1 : Int32) = 0 ∧ (0 : Int32) = 0 ∧ c = c) :=
    Or.inr (Or.inr ⟨by decide, by decide, rfl, rfl⟩)
  refine br_c (fun z => ?_) (fun z => br_c (fun z2 => br_f (by decide) (sj_lc ?_)) (fun z2 => ?_))
  · rw [sj_at1 z]
    exact sj_t279 H h'
  · rw [sj_at2 z z2]
    exact sj_t279 H h'
  · rw [sj_at3 z z2]
    exact sj_t279 H h'
theorem sj_t200 {x14 e : Int32} (H : post 1 ()) : wL_lawOf_200 post mc ms k d w t 0 (-1) e e (sj_at 0 0 1 t) e x14 e kc ks :=
  br_t rfl (br_t rfl (sj_t240a H (Or.inl ⟨rfl, rfl, rfl⟩)))
theorem sj_102R {q : Int32} {m : Nat} (H : post 1 ()) (h : q < nI (2 + m)) : wL_lawOf_102 post mc ms k d w t (nI m) (-3) (-1) (-2000) (-2000) (-2000) 0 q kc ks :=
  nm_r (sj_2 m) (br_f (Int32.not_le.mpr h) (br_t rfl (br_t rfl (br_t rfl (br_t rfl (br_t rfl (br_t rfl H)))))))
theorem sj_102N {q : Int32} {m : Nat} (H : post 1 ()) (h : ¬ q < nI (2 + m)) (hg : ¬ sj_good k d w) : wL_lawOf_102 post mc ms k d w t (nI m) 0 (-1) (nI (2 + m)) (nI (2 + m)) (sj_at 0 0 1 t) (nI (2 + m)) q kc ks :=
  nm_r (sj_2 m) (br_t (Int32.not_lt.mp h) (br_c (fun _ => sj_t200 H) (fun z1 => br_c (fun _ => sj_t200 H) (fun z2 => br_c (fun _ => sj_t200 H) (fun z3 => br_c (fun _ => sj_t200 H) (fun z4 => br_c (fun _ => sj_t200 H) (fun z5 => br_c (fun _ => sj_t200 H) (fun z6 => absurd ⟨z1, z2, z3, z4, z5, Int32.not_lt.mp z6⟩ hg))))))))
theorem sj_102G {q x9 x10 x12 : Int32} {m : Nat} (h : ¬ q < nI (2 + m)) (hg : sj_good k d w) (H : wL_lawOf_221 post mc ms k d w t 0 x9 x10 (nI (2 + m)) x12 (nI (2 + m)) q (nI (2 + m)) 1 (sj_cost k d w (nI (2 + m))) kc ks) : wL_lawOf_102 post mc ms k d w t (nI m) 0 x9 x10 (nI (2 + m)) x12 (nI (2 + m)) q kc ks := by
  obtain ⟨z1, z2, z3, z4, z5, z6⟩ := hg
  exact nm_r (sj_2 m) (br_t (Int32.not_lt.mp h) (br_f z1 (br_f z2 (br_f z3 (br_f z4 (br_f z5 (br_f (Int32.not_lt.mpr z6) (br_f (by decide) (sj_lc H)))))))))
theorem sj_102T {q : Int32} {m : Nat} (H : post 1 ()) (h : ¬ q < nI (2 + m)) (hg : sj_good k d w) (hc : ¬ q < sj_cost k d w (nI (2 + m))) : wL_lawOf_102 post mc ms k d w t (nI m) 0 0 (sj_cost k d w (nI (2 + m))) (nI (2 + m)) (sj_at k d w t) (nI (2 + m)) q kc ks :=
  sj_102G h hg (br_f (by decide) (br_f hc (sj_t240b H)))
theorem sj_102F {q : Int32} {m : Nat} (H : post 1 ()) (h : ¬ q < nI (2 + m)) (hg : sj_good k d w) (hc : q < sj_cost k d w (nI (2 + m))) : wL_lawOf_102 post mc ms k d w t (nI m) 0 (-3) (nI (2 + m)) (nI (2 + m)) (sj_at 0 0 1 t) (nI (2 + m)) q kc ks :=
  sj_102G h hg (br_f (by decide) (br_t hc (sj_t240a H (Or.inr ⟨by decide, rfl, rfl⟩))))
theorem sj_cl102 {p0 x6 x8 x9 x10 x11 x12 x13 : Int32} (H : wL_lawOf_102 post mc ms k d w t x6 x8 x9 x10 x11 x12 x13 (sj_clamp p0) kc ks) :
    ((-200) ≤ p0 → ((p0 ≤ 1000 → wL_lawOf_102 post mc ms k d w t x6 x8 x9 x10 x11 x12 x13 p0 kc ks) ∧ (¬ p0 ≤ 1000 → wL_lawOf_102 post mc ms k d w t x6 x8 x9 x10 x11 x12 x13 1000 kc ks))) ∧ (¬ (-200) ≤ p0 → wL_lawOf_102 post mc ms k d w t x6 x8 x9 x10 x11 x12 x13 (-200) kc ks) :=
  sj_clB (P := fun z => wL_lawOf_102 post mc ms k d w t x6 x8 x9 x10 x11 x12 x13 z kc ks) H
theorem sj_p (x : Int32) : ∃ m : Nat, 1 ≤ m ∧ m ≤ 3 ∧ 1 + ((x &&& 65535) - (x &&& 65535) / 3 * 3) = nI m := by
  obtain ⟨j, hj, e⟩ := pk_andE x (m := 65535) 16 (by decide)
  have hj' : j < 2 ^ 31 := by omega
  have r : nI j - nI j / 3 * 3 = nI (j % 3) := pk_rem (d := 3) hj' (by omega) (by omega)
  refine ⟨1 + j % 3, by omega, by omega, ?_⟩
  rw [e, r]
  exact nI_add 1 (j % 3)
theorem sj_law {p0 p1 : Int32} (H : post 1 ()) : wpL_lawOf post 34 544 () p0 p1 k d w t := by
  obtain ⟨m, hm1, hm3, hm⟩ := sj_p p1
  have hq := sj_cl_lt p0
  have B0 := sj_gb hm3 sj_good0
  have L0 := sj_lateN hm3
  refine ⟨by decide, nm_r hm ⟨by omega, by omega, 8, 51, by omega, by omega, sj_init (sj_add hm1 hm3 (fun hr pc be a1 a2 a3 a4 a5 a6 a7 a8 => ?_) (fun hr pc be a1 a2 a3 a4 a5 a6 a7 a8 hS => ?_))⟩⟩
  · exact sj_set0 (sj_wo0 (sj_ef0 (sj_ca0 (sj_sp0 (fun _ => sj_cl102 (sj_102R H hr))))))
  · have hr0 : ¬ sj_clamp p0 < sj_cost 0 0 1 (nI (2 + m)) := by rw [L0]; exact hr
    refine sj_set1 hm3 hS (fun ng => ?_) (fun gd hc pc be a1 a2 a3 a4 a5 a6 a7 a8 hS => ?_) (fun gd hc pc be a1 a2 a3 a4 a5 a6 a7 a8 hS => ?_)
    · refine sj_wo1 hS B0 (fun pc be a7 a8 => sj_ef1 hm3 hS B0 hq hr0 (fun fb pc be a7 a8 => sj_ca1 hS (sj_sp1 hS (fun be a7 => sj_cl102 ?_))))
      rw [L0]
      exact sj_102N H hr ng
    · have B := sj_gb hm3 gd
      exact sj_wo1 hS B (fun pc be a7 a8 => sj_ef1 hm3 hS B hq hc (fun fb pc be a7 a8 => sj_ca1 hS (sj_sp1 hS (fun be a7 => sj_cl102 (sj_102T H hr gd hc)))))
    · refine sj_wo1 hS B0 (fun pc be a7 a8 => sj_ef1 hm3 hS B0 hq hr0 (fun fb pc be a7 a8 => sj_ca1 hS (sj_sp1 hS (fun be a7 => sj_cl102 ?_))))
      rw [L0]
      exact sj_102F H hr gd hc
theorem sj_cell {Q : Int32 → Prop} {L : Nat} {xs : Nat → Int32} {x : Int32} (j : Nat) (hL : L ≤ 6) (hj : j < 6) (H : ∀ v, Q v) (hx : x = nI j := by rfl) : wpL_cellAt Q L xs () x :=
  pk_le L j (fun _ => H _) (fun z => ⟨pk_in j L z hx, H _⟩) rfl hx
end
end
section
theorem i_vc (xs : Nat → Int32) (L : Nat) (hL : L ≤ 6) : wpL_law (fun r => r = 1) L xs :=
  sj_cell 0 hL (by omega) (fun v1 => sj_cell 1 hL (by omega) (fun v2 => sj_cell 2 hL (by omega) (fun v3 => sj_cell 3 hL (by omega) (fun v4 => sj_cell 4 hL (by omega) (fun v5 => sj_cell 5 hL (by omega) (fun v6 =>
    ⟨34, 544, by omega, by omega, sj_law rfl⟩))))))
end
