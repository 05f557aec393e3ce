/-! LAYER 2: the system's collector: boxes -/
theorem fl2_lp {N v : Nat} {L : Int32} {σ : mS} (hb : x_aB 5 v = true) (hl : x_ln v < 2147483648) (hL : (OfNat.ofNat (x_ln v) : Int32) = L) (L1 : L ≤ 32768) : ∀ (j : Nat) (i : Int32) (τ : mS), 0 ≤ i → i ≤ L → (L.toInt - i.toInt).toNat < j → m_fr (fun k => k == v) σ τ → zr τ v i → ∃ τ', xj3_fill_2_b5 N j v 0 i L τ = some τ' ∧ m_fr (fun k => k == v) σ τ' ∧ zr τ' v L := by
  intro j
  induction j with
  | zero => intro i τ _ _ h; omega
  | succ j ih =>
    intro i τ i0 i1 hj fr z
    rw [xj3_fill_2_b5]
    by_cases c : L ≤ i
    · have e := Int32.le_antisymm i1 c
      subst e
      rw [if_pos c]
      exact ⟨τ, rfl, fr, z⟩
    · obtain ⟨r1, r2, r3, r4, r5⟩ := cz_1 i0 c L1
      have g : inB i (x_ln v) = true := by
        have a := tI_le.mp i0
        have b := tI_lt.mp r1.2
        rw [show (0 : Int32).toInt = 0 from rfl] at a
        rw [← hL, show (OfNat.ofNat (x_ln v) : Int32) = Int32.ofNat (x_ln v) from rfl, tI_lit hl] at b
        exact tI_in a b
      rw [if_neg c, hb, gd_tt, g, gd_tt, nar_b0]
      simp only [lt]
      exact ih (i + 1) _ r2 r3 (by omega) (mf_ai fr (by simp)) (zr_s i0 r1.2 L1 z)
theorem fl2_x {N v : Nat} {L : Int32} {σ : mS} (hN : BIG ≤ N) (hb : x_aB 5 v = true) (hl : x_ln v < 2147483648) (hL : (OfNat.ofNat (x_ln v) : Int32) = L) (L0 : 0 ≤ L) (L1 : L ≤ 32768) : ∃ τ, xj3_fill_2 N σ v 0 = some τ ∧ m_fr (fun k => k == v) σ τ ∧ zr τ v L := by
  have := fl2_lp (N := N) (σ := σ) hb hl hL L1 N 0 σ (by decide) L0 (big_d hN) mf_rfl (fun k k0 k1 => absurd (Int32.lt_of_le_of_lt k0 k1) Int32.lt_irrefl)
  rw [xj3_fill_2, hb, gd_tt, lt]
  rw [show Int32.ofNat (x_ln v) = L from hL]
  exact this
theorem bo_246 : x_aB 5 246 = true ∧ x_ln 246 < 2147483648 ∧ (OfNat.ofNat (x_ln 246) : Int32) = 3000 := by decide +kernel
theorem bo_247 : x_aB 5 247 = true ∧ x_ln 247 < 2147483648 ∧ (OfNat.ofNat (x_ln 247) : Int32) = 12000 := by decide +kernel
/-- those on a chain are told by a row -/
theorem sb13 {N : Nat} {σ : mS} {fb : List Int32} (hr : ∀ x, x ∈ fb → 0 ≤ x ∧ x < 12000) : ∀ (R P : List Int32) (n : Nat) (v : Int32) (τ : mS), fb = P ++ R → R.length < n → seg (sI σ 235) v R (-1) → m_fr (fun k => k == 247) σ τ → (∀ x, 0 ≤ x → x < 12000 → sI τ 247 x = if x ∈ P then 1 else 0) → ∃ τ', xx3_sweepBoxes_b13 N n v τ = xx3_sweepBoxes_b37 N N 0 τ' ∧ m_fr (fun k => k == 247) σ τ' ∧ (∀ x, 0 ≤ x → x < 12000 → sI τ' 247 x = if x ∈ fb then 1 else 0)
  | [], P, n, v, τ, he, hn, sg, fr, h => by
    obtain ⟨n, rfl⟩ : ∃ j, n = j + 1 := ⟨n - 1, by simp at hn; omega⟩
    have e : v = -1 := sg
    subst e
    rw [List.append_nil] at he
    rw [xx3_sweepBoxes_b13, if_pos rfl]
    exact ⟨τ, rfl, fr, by rw [he]; exact h⟩
  | x :: R, P, n, v, τ, he, hn, sg, fr, h => by
    obtain ⟨n, rfl⟩ : ∃ j, n = j + 1 := ⟨n - 1, by simp at hn; omega⟩
    obtain ⟨rfl, sg⟩ := sg
    obtain ⟨v0, v1⟩ := hr v (by rw [he]; simp)
    have e235 : sI (md_ai τ 247 v.toNatClampNeg 1) 235 v = sI σ 235 v := by rw [sI_ai1 (by decide)]; exact mf_I fr rfl
    rw [xx3_sweepBoxes_b13, if_neg (fun e => by rw [e] at v0; exact absurd v0 (by decide)), gd_in (by decide) v0 v1, nar_b1]
    simp only [lt, sI_fold]
    rw [gd_in (by decide) v0 v1, e235]
    refine sb13 hr R (P ++ [v]) n (sI σ 235 v) _ (by rw [he]; simp) (by simp at hn; omega) sg (mf_ai fr rfl) (fun y y0 y1 => ?_)
    rw [sI_ai v0 y0, h y y0 y1]
    by_cases e : y = v
    · rw [if_pos ⟨rfl, e⟩, if_pos (mem_sn.mpr (.inr e))]
    · rw [if_neg (fun q => e q.2)]
      by_cases m : y ∈ P
      · rw [if_pos m, if_pos (mem_sn.mpr (.inl m))]
      · rw [if_neg m, if_neg (fun q => (mem_sn.mp q).elim m e)]
def sbF (k : Nat) : Bool := [235, 236, 237, 240, 247].contains k
def SBI (σ τ : mS) (bs fb : List Int32) (v : Int32) (D : List Int32) : Prop := m_fr sbF σ τ ∧ seg (sI τ 235) (sF τ 236) (D ++ fb) (-1) ∧ D.Nodup ∧ (∀ x, x ∈ D ↔ 0 ≤ x ∧ x < v ∧ x ∈ bs ∧ sI σ 240 x = 0) ∧ (sF τ 237).toInt = bs.length - D.length ∧ (∀ x, 0 ≤ x → x < 12000 → sI τ 247 x = if x ∈ fb then 1 else 0) ∧ (∀ x, 0 ≤ x → x < v → sI τ 240 x = 0) ∧ (∀ x, v ≤ x → x < 12000 → sI τ 240 x = sI σ 240 x)
theorem sbb_1 {v : Int32} (h0 : 0 ≤ v) (h1 : ¬ 12000 ≤ v) : (0 ≤ v ∧ v < 12000) ∧ (0 ≤ v + 1 ∧ v + 1 ≤ 12000) ∧ (v + 1).toInt = v.toInt + 1 ∧ v.toInt < 12000 ∧ (∀ d, d < v + 1 ↔ d < v ∨ d = v) ∧ (∀ d, v + 1 ≤ d → v ≤ d ∧ d ≠ v) := by
  have h := Int32.not_le.mp h1
  refine ⟨⟨h0, h⟩, ⟨by lia, by lia⟩, tI_inc h0 (by lia), ?_, fun d => ⟨fun q => by lia, fun q => by rcases q with q | q <;> lia⟩, fun d q => ⟨by lia, fun e => by lia⟩⟩
  rw [tI_lt] at h
  exact h
theorem sb37 {N : Nat} {σ : mS} {bs fb : List Int32} (ndb : (bs ++ fb).Nodup) (hr : ∀ x, x ∈ bs ++ fb → 0 ≤ x ∧ x < 12000) (hl : bs.length + fb.length = 12000) (hz : ∀ x, 0 ≤ x → x < 12000 → x ∉ bs → sI σ 240 x = 0) : ∀ (j : Nat) (v : Int32) (τ : mS) (D : List Int32), SBI σ τ bs fb v D → 0 ≤ v → v ≤ 12000 → (12000 - v.toInt).toNat < j → ∃ τ' D', xx3_sweepBoxes_b37 N j v τ = some τ' ∧ SBI σ τ' bs fb 12000 D' := by
  intro j
  induction j with
  | zero => intro v τ D _ _ _ h; omega
  | succ j ih =>
    intro v τ D S h0 h1 hj
    rw [xx3_sweepBoxes_b37]
    by_cases c : 12000 ≤ v
    · have e := Int32.le_antisymm h1 c
      subst e
      rw [if_pos c]
      exact ⟨τ, D, rfl, S⟩
    · obtain ⟨r1, r2, r3, r4, r5, r6⟩ := sbb_1 h0 c
      obtain ⟨a1, a2, a3, a4, a5, a6, a7, a8⟩ := S
      have e247 := a6 v r1.1 r1.2
      have e240 := a8 v (Int32.le_refl _) r1.2
      have nb : v ∈ bs ↔ v ∉ fb := by
        refine ⟨fun m q => (List.nodup_append.mp ndb).2.2 v m v q rfl, fun m => ?_⟩
        refine Classical.byContradiction (fun q => ?_)
        have nd2 : (v :: (bs ++ fb)).Nodup := List.nodup_cons.mpr ⟨fun w => (List.mem_append.mp w).elim q m, ndb⟩
        have := nd_M (M := 12000) nd2 (fun x hx => by
          rcases List.mem_cons.mp hx with w | w
          · rw [w]; exact r1
          · exact hr x w)
        rw [show (12000 : Int32).toInt = 12000 from rfl] at this
        simp only [List.length_cons, List.length_append] at this
        omega
      -- one that stays
      have stay : (v ∈ bs → sI σ 240 v ≠ 0) → ∃ τ' D', xx3_sweepBoxes_b37 N j (v + 1) (md_ai τ 240 v.toNatClampNeg 0) = some τ' ∧ SBI σ τ' bs fb 12000 D' := fun hs => by
        refine ih (v + 1) _ D ⟨mf_ai a1 rfl, ?_, a3, fun x => ?_, a5, fun x x0 x1 => ?_, fun x x0 x1 => ?_, fun x x0 x1 => ?_⟩ r2.1 r2.2 (by omega)
        · simp (disch := decide) only [sF_pi, sF_pl, sF_ai, sF_al, sG_pi, sG_pl, sG_ai, sG_al, sI_pi, sI_pl, sI_al, sI_ai1, sI_ai2, sJ_pi, sJ_pl, sJ_ai, sJ_al1, sJ_al2, Nat.reduceEqDiff, if_true, if_false, ne_eq, not_false_eq_true, ite_true, ite_false]
          exact seg_congr a2 (fun x _ => by simp (disch := decide) only [sF_pi, sF_pl, sF_ai, sF_al, sG_pi, sG_pl, sG_ai, sG_al, sI_pi, sI_pl, sI_al, sI_ai1, sI_ai2, sJ_pi, sJ_pl, sJ_ai, sJ_al1, sJ_al2, Nat.reduceEqDiff, if_true, if_false, ne_eq, not_false_eq_true, ite_true, ite_false])
        · rw [a4 x, r5 x]
          refine ⟨fun ⟨q1, q2, q3⟩ => ⟨q1, .inl q2, q3⟩, fun ⟨q1, q2, q3, q4⟩ => ⟨q1, ?_, q3, q4⟩⟩
          rcases q2 with q | q
          · exact q
          · rw [q] at q3 q4
            exact absurd q4 (hs q3)
        · rw [sI_ai1 (by decide)]; exact a6 x x0 x1
        · rw [sI_ai h0 x0]
          by_cases e : x = v
          · rw [if_pos ⟨rfl, e⟩]
          · rw [if_neg (fun q => e q.2)]
            exact a7 x x0 (((r5 x).mp x1).resolve_right e)
        · have q := r6 x x0
          rw [sI_ai h0 (Int32.le_trans h0 q.1), if_neg (fun w => q.2 w.2)]
          exact a8 x q.1 x1
      rw [if_neg c, gd_in (by decide) r1.1 r1.2]
      simp only [lt, sF_fold, sI_fold]
      rw [e247]
      by_cases m : v ∈ fb
      · rw [if_pos m, if_neg (by decide), xx3_sweepBoxes_b87, gd_in (by decide) r1.1 r1.2, nar_b0]
        exact stay (fun w => absurd m (nb.mp w))
      · rw [if_neg m, if_pos rfl, gd_in (by decide) r1.1 r1.2, e240]
        by_cases z : sI σ 240 v = 0
        · rw [if_pos z, gd_in (by decide) r1.1 r1.2, xx3_sweepBoxes_b87, gd_in (by decide) r1.1 r1.2, nar_b0]
          simp only [lt]
          have nm : v ∉ D := fun q => absurd ((a4 v).mp q).2.1 Int32.lt_irrefl
          have ndl : D.length ≤ bs.length := by
            have hs : ∀ x, x ∈ D → x ∈ bs := fun x hx => ((a4 x).mp hx).2.2.1
            exact List.Nodup.length_le_of_subset a3 (l₂ := bs) hs
          have d1 : sF τ 237 ≤ 12000 ∧ 0 ≤ (sF τ 237).toInt := by
            rw [tI_le, show (12000 : Int32).toInt = 12000 from rfl]
            omega
          refine ih (v + 1) _ (v :: D) ⟨mf_ai (mf_pi (mf_pi (mf_ai a1 rfl) rfl) rfl) rfl, ?_, List.nodup_cons.mpr ⟨nm, a3⟩, fun x => ?_, ?_, fun x x0 x1 => ?_, fun x x0 x1 => ?_, fun x x0 x1 => ?_⟩ r2.1 r2.2 (by omega)
          · have h236 : sF (md_ai (md_pi (md_pi (md_ai τ 235 v.toNatClampNeg (sF τ 236)) 236 v) 237 (sF (md_pi (md_ai τ 235 v.toNatClampNeg (sF τ 236)) 236 v) 237 - 1)) 240 v.toNatClampNeg 0) 236 = v := by simp (disch := decide) only [sF_pi, sF_pl, sF_ai, sF_al, sG_pi, sG_pl, sG_ai, sG_al, sI_pi, sI_pl, sI_al, sI_ai1, sI_ai2, sJ_pi, sJ_pl, sJ_ai, sJ_al1, sJ_al2, Nat.reduceEqDiff, if_true, if_false, ne_eq, not_false_eq_true, ite_true, ite_false]
            rw [h236]
            refine ⟨rfl, ?_⟩
            rw [sI_ai1 (by decide), sI_pi, sI_pi, sI_ai2]
            refine seg_congr a2 (fun x hx => ?_)
            have x0 : 0 ≤ x ∧ x ≠ v := by
              rcases List.mem_append.mp hx with w | w
              · exact ⟨((a4 x).mp w).1, fun e => nm (by rw [← e]; exact w)⟩
              · exact ⟨(hr x (List.mem_append.mpr (.inr w))).1, fun e => m (by rw [← e]; exact w)⟩
            rw [sI_ai1 (by decide), sI_pi, sI_pi, sI_ai h0 x0.1, if_neg (fun q => x0.2 q.2)]
          · rw [List.mem_cons, a4 x, r5 x]
            refine ⟨fun q => ?_, fun ⟨q1, q2, q3, q4⟩ => ?_⟩
            · rcases q with q | ⟨q1, q2, q3⟩
              · rw [q]; exact ⟨h0, .inr rfl, nb.mpr m, z⟩
              · exact ⟨q1, .inl q2, q3⟩
            · rcases q2 with q | q
              · exact .inr ⟨q1, q, q3, q4⟩
              · exact .inl q
          · have h237 : sF (md_ai (md_pi (md_pi (md_ai τ 235 v.toNatClampNeg (sF τ 236)) 236 v) 237 (sF (md_pi (md_ai τ 235 v.toNatClampNeg (sF τ 236)) 236 v) 237 - 1)) 240 v.toNatClampNeg 0) 237 = sF τ 237 - 1 := by simp (disch := decide) only [sF_pi, sF_pl, sF_ai, sF_al, sG_pi, sG_pl, sG_ai, sG_al, sI_pi, sI_pl, sI_al, sI_ai1, sI_ai2, sJ_pi, sJ_pl, sJ_ai, sJ_al1, sJ_al2, Nat.reduceEqDiff, if_true, if_false, ne_eq, not_false_eq_true, ite_true, ite_false]
            have one : (1 : Int32).toInt = 1 := rfl
            have d2 := tI_le.mp d1.1
            rw [show (12000 : Int32).toInt = 12000 from rfl] at d2
            rw [h237, tI_sub (by rw [one]; omega) (by rw [one]; omega), a5, one, List.length_cons]
            push_cast
            omega
          · rw [sI_ai1 (by decide), sI_pi, sI_pi, sI_ai1 (by decide)]; exact a6 x x0 x1
          · rw [sI_ai h0 x0]
            by_cases e : x = v
            · rw [if_pos ⟨rfl, e⟩]
            · rw [if_neg (fun q => e q.2), sI_pi, sI_pi, sI_ai1 (by decide)]
              exact a7 x x0 (((r5 x).mp x1).resolve_right e)
          · have q := r6 x x0
            rw [sI_ai h0 (Int32.le_trans h0 q.1), if_neg (fun w => q.2 w.2), sI_pi, sI_pi, sI_ai1 (by decide)]
            exact a8 x q.1 x1
        · rw [if_neg z, xx3_sweepBoxes_b87, gd_in (by decide) r1.1 r1.2, nar_b0]
          exact stay (fun _ => z)
/-- the boxes that are not marked go -/
theorem sweepB_x {N : Nat} (hN : BIG ≤ N) {σ : mS} {bs fb : List Int32} (B : BX σ bs fb) (hz : ∀ x, 0 ≤ x → x < 12000 → x ∉ bs → sI σ 240 x = 0) : ∃ τ f', xx3_sweepBoxes N σ = some τ ∧ BX τ (bs.filter (mkd σ 240)) f' ∧ (∀ x, 0 ≤ x → x < 12000 → sI τ 240 x = 0) ∧ m_fr sbF σ τ := by
  obtain ⟨s1, nd, hr, hc, hl⟩ := B
  obtain ⟨τ0, e0, fr0, z0⟩ := fl2_x (σ := σ) hN bo_247.1 bo_247.2.1 bo_247.2.2 (by decide) (by decide)
  obtain ⟨n1, n2, n3⟩ := List.nodup_append.mp nd
  obtain ⟨τ1, e1, fr1, h1⟩ := sb13 (N := N) (σ := σ) (fb := fb) (fun x hx => hr x (List.mem_append.mpr (.inr hx))) fb [] N (sF τ0 236) τ0 rfl (by simp only [BIG] at hN; omega) (by rw [mf_F fr0 (k := 236) rfl]; exact s1) fr0 (fun x x0 x1 => by rw [z0 x x0 x1, if_neg (by simp)])
  obtain ⟨τ, D, e2, a1, a2, a3, a4, a5, a6, a7, a8⟩ := sb37 (N := N) (σ := σ) nd hr hl hz N 0 τ1 [] ⟨mf_mono fr1 (fun k hk => by
      simp only [sbF, List.contains_cons, List.contains_nil, Bool.or_eq_false_iff, beq_eq_false_iff_ne] at hk
      simp only [beq_eq_false_iff_ne]; omega), by
      rw [mf_F fr1 (k := 236) rfl]
      exact seg_congr s1 (fun x _ => mf_I fr1 rfl), by simp, fun x => ⟨fun h => absurd h (by simp), fun ⟨q1, q2, _⟩ => absurd (Int32.lt_of_le_of_lt q1 q2) Int32.lt_irrefl⟩, by rw [mf_F fr1 (k := 237) rfl, hc]; simp, h1, fun x x0 x1 => absurd (Int32.lt_of_le_of_lt x0 x1) Int32.lt_irrefl, fun x _ _ => mf_I fr1 rfl⟩ (by decide) (by decide) (by
      simp only [BIG] at hN
      rw [show (0 : Int32).toInt = 0 from rfl]
      omega)
  have mD : ∀ x, x ∈ D ↔ x ∈ bs.filter (fun x => !mkd σ 240 x) := fun x => by
    rw [a4 x, List.mem_filter]
    refine ⟨fun ⟨q1, q2, q3, q4⟩ => ⟨q3, by simp [mkd, q4]⟩, fun ⟨q1, q2⟩ => ?_⟩
    obtain ⟨r1, r2⟩ := hr x (List.mem_append.mpr (.inl q1))
    exact ⟨r1, r2, q1, by simpa [mkd] using q2⟩
  have lD := (nd_perm a3 (n1.filter _) mD).length_eq
  have lf := flt_len (p := mkd σ 240) bs
  refine ⟨τ, D ++ fb, ?_, ⟨a2, ?_, fun x hx => ?_, ?_, ?_⟩, fun x x0 x1 => a7 x x0 x1, a1⟩
  · rw [← e2, ← e1, xx3_sweepBoxes, e0]
    rfl
  · refine List.nodup_append.mpr ⟨n1.filter _, List.nodup_append.mpr ⟨a3, n2, fun a ha b hb => n3 a ((a4 a).mp ha).2.2.1 b hb⟩, fun a ha b hb q => ?_⟩
    subst q
    rcases List.mem_append.mp hb with w | w
    · have := (List.mem_filter.mp ha).2
      rw [mkd, ((a4 a).mp w).2.2.2] at this
      exact absurd this (by decide)
    · exact n3 a (List.mem_filter.mp ha).1 a w rfl
  · rcases List.mem_append.mp hx with w | w
    · exact hr x (List.mem_append.mpr (.inl (List.mem_filter.mp w).1))
    · rcases List.mem_append.mp w with w | w
      · exact hr x (List.mem_append.mpr (.inl ((a4 x).mp w).2.2.1))
      · exact hr x (List.mem_append.mpr (.inr w))
  · rw [a5]; omega
  · rw [List.length_append]; omega
