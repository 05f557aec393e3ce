/-! LAYER 2: functions and boxes of the system -/
def CX (σ : mS) (o f : List Int32) : Prop := OL (sI σ 226) (sF σ 227) (sF σ 228) (sF σ 229) (sF σ 230) 4000 o f ∧ lay (sI σ 223) (sI σ 224) 12000 0 o (sF σ 232)
theorem CX_mem {σ : mS} {o f : List Int32} (H : CX σ o f) {x : Int32} (hx : x ∈ o) : 0 ≤ x ∧ x < 4000 ∧ 0 ≤ sI σ 223 x ∧ 0 ≤ sI σ 224 x ∧ sI σ 223 x ≤ sI σ 223 x + sI σ 224 x ∧ sI σ 223 x + sI σ 224 x ≤ sF σ 232 ∧ sF σ 232 ≤ 12000 := by
  have h1 := H.1.2.2.2.2.1 x (by simp [hx])
  obtain ⟨q1, q2, q3⟩ := lay_le H.2 (by decide)
  have := q3 x hx
  exact ⟨h1.1, h1.2, this.1, this.2.2.2, this.2.1, this.2.2.1, q2⟩
theorem CX_top {σ : mS} {o f : List Int32} (H : CX σ o f) : 0 ≤ sF σ 232 ∧ sF σ 232 ≤ 12000 := by
  obtain ⟨q1, q2, q3⟩ := lay_le H.2 (by decide)
  exact ⟨q1, q2⟩
def fX (k : Nat) : Bool := [194, 222, 223, 224, 225, 226, 227, 228, 229, 230, 232].contains k
def fn_post (σ τ : mS) (o f : List Int32) (c n h : Int32) : Prop := ∃ f', f = h :: f' ∧ CX τ (o ++ [h]) f' ∧ h ∉ o ∧ 0 ≤ h ∧ h < 4000 ∧ (∀ x, 0 ≤ x → sI τ 222 x = if x = h then c else sI σ 222 x) ∧ (∀ x, 0 ≤ x → sI τ 223 x = if x = h then sF σ 232 else sI σ 223 x) ∧ (∀ x, 0 ≤ x → sI τ 224 x = if x = h then n else sI σ 224 x) ∧ (∀ x, 0 ≤ x → sJ τ 225 x = if x = h then sG σ 194 else sJ σ 225 x) ∧ sG τ 194 = sG σ 194 + 1 ∧ sF τ 232 = sF σ 232 + n ∧ sF τ 230 = sF σ 230 + 1 ∧ m_fr fX σ τ
theorem function_x0 {N : Nat} {σ : mS} {c n : Int32} (h : sF σ 230 = 4000 ∨ 12000 < sF σ 232 + n) : xx3_function N σ c n = some (.error (1101, σ)) := by
  by_cases d : sF σ 230 = 4000
  · rw [xx3_function, if_pos]
    · rfl
    · exact d
  · rw [xx3_function, if_neg, if_neg]
    · rfl
    · show ¬ sF σ 232 + n ≤ 12000
      lia
    · exact d
theorem function_x {N : Nat} {σ : mS} {o f : List Int32} {c n : Int32} (H : CX σ o f) (n0 : 0 ≤ n) (n1 : n ≤ 12000) (c1 : sF σ 230 ≠ 4000) (c2 : sF σ 232 + n ≤ 12000) : ∃ h τ, xx3_function N σ c n = some (.ok (h, τ)) ∧ fn_post σ τ o f c n h := by
  obtain ⟨t1, t2⟩ := CX_top H
  obtain ⟨h, f', e1, e2, h0, h1, hno, hb, al⟩ := OL_alloc H.1 c1 (by decide)
  have key : ∀ τ : mS, m_fr fX σ τ → sF τ 228 = h → sF τ 229 = sI σ 226 h → sF τ 230 = sF σ 230 + 1 → sF τ 232 = sF σ 232 + n → sG τ 194 = sG σ 194 + 1 → (∀ x, 0 ≤ x → sI τ 222 x = if x = h then c else sI σ 222 x) → (∀ x, 0 ≤ x → sI τ 223 x = if x = h then sF σ 232 else sI σ 223 x) → (∀ x, 0 ≤ x → sI τ 224 x = if x = h then n else sI σ 224 x) → (∀ x, 0 ≤ x → sJ τ 225 x = if x = h then sG σ 194 else sJ σ 225 x) → OL (sI τ 226) (sF τ 227) h (sI σ 226 h) (sF σ 230 + 1) 4000 (o ++ [h]) f' → fn_post σ τ o f c n h := by
    intro τ fr q1 q2 q3 q4 q5 a222 a223 a224 a225 ol
    refine ⟨f', e1, ⟨by rw [q1, q2, q3]; exact ol, ?_⟩, hno, h0, h1, a222, a223, a224, a225, q5, q4, q3, fr⟩
    rw [lay_app, q4]
    refine ⟨sF σ 232, lay_congr H.2 (fun x hx => ?_), ?_⟩
    · have := H.1.2.2.2.2.1 x (by simp [hx])
      have xh : x ≠ h := fun q => hno (by rw [← q]; exact hx)
      rw [a223 x this.1, a224 x this.1, if_neg xh, if_neg xh]
      exact ⟨rfl, rfl⟩
    · simp only [lay]
      rw [a223 h h0, a224 h h0, if_pos rfl, if_pos rfl]
      exact ⟨rfl, n0, by lia, c2, rfl⟩
  by_cases hb1 : sF σ 228 = -1
  · refine ⟨h, md_pi (md_pi (md_ai (md_al (md_pl (md_pi (md_ai (md_ai (md_ai (md_pi (md_pi σ 229 (sI σ 226 h)) 230 (sF σ 230 + 1)) 222 h.toNatClampNeg c) 223 h.toNatClampNeg (sF σ 232)) 224 h.toNatClampNeg n) 232 (sF σ 232 + n)) 194 (sG σ 194 + 1)) 225 h.toNatClampNeg (sG σ 194)) 226 h.toNatClampNeg (-1)) 227 h) 228 h, ?_, key _ (mf_pi (mf_pi (mf_ai (mf_al (mf_pl (mf_pi (mf_ai (mf_ai (mf_ai (mf_pi (mf_pi mf_rfl rfl) rfl) rfl) rfl) rfl) rfl) rfl) rfl) rfl) rfl) rfl) ?_ ?_ ?_ ?_ ?_ ?_ ?_ ?_ ?_ ?_⟩
    all_goals clear key
    · clear H al
      simp (disch := lia) only [xx3_function, xx3_function_b136, lt, gd_in, if_pos, if_neg, ↓reduceIte, gd_z0, gd_z1, gd_tt, sF_fold, sG_fold, sI_fold, sJ_fold, sF_pi, sF_pl, sF_ai, sF_al, sG_pi, sG_pl, sG_ai, sG_al, sI_pi, sI_pl, sI_al, sI_ai1, sI_ai2, sJ_pi, sJ_pl, sJ_ai, sJ_al1, sJ_al2, Nat.reduceEqDiff, if_true, if_false, ne_eq, not_false_eq_true, ite_true, ite_false, e2, hb1, c1]
    · simp only [sF_pi, sF_pl, sF_ai, sF_al, sG_pi, sG_pl, sG_ai, sG_al, sI_pi, sI_pl, sI_al, sI_ai1, sI_ai2, sJ_pi, sJ_pl, sJ_ai, sJ_al1, sJ_al2, Nat.reduceEqDiff, if_true, if_false, ne_eq, not_false_eq_true, ite_true, ite_false]
    · simp only [sF_pi, sF_pl, sF_ai, sF_al, sG_pi, sG_pl, sG_ai, sG_al, sI_pi, sI_pl, sI_al, sI_ai1, sI_ai2, sJ_pi, sJ_pl, sJ_ai, sJ_al1, sJ_al2, Nat.reduceEqDiff, if_true, if_false, ne_eq, not_false_eq_true, ite_true, ite_false]
    · simp only [sF_pi, sF_pl, sF_ai, sF_al, sG_pi, sG_pl, sG_ai, sG_al, sI_pi, sI_pl, sI_al, sI_ai1, sI_ai2, sJ_pi, sJ_pl, sJ_ai, sJ_al1, sJ_al2, Nat.reduceEqDiff, if_true, if_false, ne_eq, not_false_eq_true, ite_true, ite_false]
    · simp only [sF_pi, sF_pl, sF_ai, sF_al, sG_pi, sG_pl, sG_ai, sG_al, sI_pi, sI_pl, sI_al, sI_ai1, sI_ai2, sJ_pi, sJ_pl, sJ_ai, sJ_al1, sJ_al2, Nat.reduceEqDiff, if_true, if_false, ne_eq, not_false_eq_true, ite_true, ite_false]
    · simp only [sF_pi, sF_pl, sF_ai, sF_al, sG_pi, sG_pl, sG_ai, sG_al, sI_pi, sI_pl, sI_al, sI_ai1, sI_ai2, sJ_pi, sJ_pl, sJ_ai, sJ_al1, sJ_al2, Nat.reduceEqDiff, if_true, if_false, ne_eq, not_false_eq_true, ite_true, ite_false]
    · intro x x0; simp (disch := lia) only [sF_pi, sF_pl, sF_ai, sF_al, sG_pi, sG_pl, sG_ai, sG_al, sI_pi, sI_pl, sI_al, sI_ai1, sI_ai2, sJ_pi, sJ_pl, sJ_ai, sJ_al1, sJ_al2, Nat.reduceEqDiff, if_true, if_false, ne_eq, not_false_eq_true, ite_true, ite_false, sI_ai, true_and]
    · intro x x0; simp (disch := lia) only [sF_pi, sF_pl, sF_ai, sF_al, sG_pi, sG_pl, sG_ai, sG_al, sI_pi, sI_pl, sI_al, sI_ai1, sI_ai2, sJ_pi, sJ_pl, sJ_ai, sJ_al1, sJ_al2, Nat.reduceEqDiff, if_true, if_false, ne_eq, not_false_eq_true, ite_true, ite_false, sI_ai, true_and]
    · intro x x0; simp (disch := lia) only [sF_pi, sF_pl, sF_ai, sF_al, sG_pi, sG_pl, sG_ai, sG_al, sI_pi, sI_pl, sI_al, sI_ai1, sI_ai2, sJ_pi, sJ_pl, sJ_ai, sJ_al1, sJ_al2, Nat.reduceEqDiff, if_true, if_false, ne_eq, not_false_eq_true, ite_true, ite_false, sI_ai, true_and]
    · intro x x0; simp (disch := lia) only [sF_pi, sF_pl, sF_ai, sF_al, sG_pi, sG_pl, sG_ai, sG_al, sI_pi, sI_pl, sI_al, sI_ai1, sI_ai2, sJ_pi, sJ_pl, sJ_ai, sJ_al1, sJ_al2, Nat.reduceEqDiff, if_true, if_false, ne_eq, not_false_eq_true, ite_true, ite_false, sJ_al, true_and]
    · simp only [sF_pi, sF_pl, sF_ai, sF_al, sG_pi, sG_pl, sG_ai, sG_al, sI_pi, sI_pl, sI_al, sI_ai1, sI_ai2, sJ_pi, sJ_pl, sJ_ai, sJ_al1, sJ_al2, Nat.reduceEqDiff, if_true, if_false, ne_eq, not_false_eq_true, ite_true, ite_false]
      refine al _ _ ?_ (fun _ => ⟨rfl, fun x x0 x1 x2 => ?_⟩) (fun q => absurd hb1 q)
      · simp (disch := lia) only [sF_pi, sF_pl, sF_ai, sF_al, sG_pi, sG_pl, sG_ai, sG_al, sI_pi, sI_pl, sI_al, sI_ai1, sI_ai2, sJ_pi, sJ_pl, sJ_ai, sJ_al1, sJ_al2, Nat.reduceEqDiff, if_true, if_false, ne_eq, not_false_eq_true, ite_true, ite_false]
      · simp (disch := lia) only [sF_pi, sF_pl, sF_ai, sF_al, sG_pi, sG_pl, sG_ai, sG_al, sI_pi, sI_pl, sI_al, sI_ai1, sI_ai2, sJ_pi, sJ_pl, sJ_ai, sJ_al1, sJ_al2, Nat.reduceEqDiff, if_true, if_false, ne_eq, not_false_eq_true, ite_true, ite_false, sI_ai]
        rw [if_neg (fun q => x2 q.2)]
  · have hb2 : 0 ≤ sF σ 228 ∧ sF σ 228 < 4000 ∧ sF σ 228 ≠ h := hb.resolve_left hb1
    obtain ⟨hb2, hb3, hb4⟩ := hb2
    refine ⟨h, md_pi (md_ai (md_ai (md_al (md_pl (md_pi (md_ai (md_ai (md_ai (md_pi (md_pi σ 229 (sI σ 226 h)) 230 (sF σ 230 + 1)) 222 h.toNatClampNeg c) 223 h.toNatClampNeg (sF σ 232)) 224 h.toNatClampNeg n) 232 (sF σ 232 + n)) 194 (sG σ 194 + 1)) 225 h.toNatClampNeg (sG σ 194)) 226 h.toNatClampNeg (-1)) 226 (sF σ 228).toNatClampNeg h) 228 h, ?_, key _ (mf_pi (mf_ai (mf_ai (mf_al (mf_pl (mf_pi (mf_ai (mf_ai (mf_ai (mf_pi (mf_pi mf_rfl rfl) rfl) rfl) rfl) rfl) rfl) rfl) rfl) rfl) rfl) rfl) ?_ ?_ ?_ ?_ ?_ ?_ ?_ ?_ ?_ ?_⟩
    all_goals clear key
    · clear H al
      simp (disch := lia) only [xx3_function, xx3_function_b136, lt, gd_in, if_pos, if_neg, ↓reduceIte, gd_z0, gd_z1, gd_tt, sF_fold, sG_fold, sI_fold, sJ_fold, sF_pi, sF_pl, sF_ai, sF_al, sG_pi, sG_pl, sG_ai, sG_al, sI_pi, sI_pl, sI_al, sI_ai1, sI_ai2, sJ_pi, sJ_pl, sJ_ai, sJ_al1, sJ_al2, Nat.reduceEqDiff, if_true, if_false, ne_eq, not_false_eq_true, ite_true, ite_false, e2, hb1, c1]
    · simp only [sF_pi, sF_pl, sF_ai, sF_al, sG_pi, sG_pl, sG_ai, sG_al, sI_pi, sI_pl, sI_al, sI_ai1, sI_ai2, sJ_pi, sJ_pl, sJ_ai, sJ_al1, sJ_al2, Nat.reduceEqDiff, if_true, if_false, ne_eq, not_false_eq_true, ite_true, ite_false]
    · simp only [sF_pi, sF_pl, sF_ai, sF_al, sG_pi, sG_pl, sG_ai, sG_al, sI_pi, sI_pl, sI_al, sI_ai1, sI_ai2, sJ_pi, sJ_pl, sJ_ai, sJ_al1, sJ_al2, Nat.reduceEqDiff, if_true, if_false, ne_eq, not_false_eq_true, ite_true, ite_false]
    · simp only [sF_pi, sF_pl, sF_ai, sF_al, sG_pi, sG_pl, sG_ai, sG_al, sI_pi, sI_pl, sI_al, sI_ai1, sI_ai2, sJ_pi, sJ_pl, sJ_ai, sJ_al1, sJ_al2, Nat.reduceEqDiff, if_true, if_false, ne_eq, not_false_eq_true, ite_true, ite_false]
    · simp only [sF_pi, sF_pl, sF_ai, sF_al, sG_pi, sG_pl, sG_ai, sG_al, sI_pi, sI_pl, sI_al, sI_ai1, sI_ai2, sJ_pi, sJ_pl, sJ_ai, sJ_al1, sJ_al2, Nat.reduceEqDiff, if_true, if_false, ne_eq, not_false_eq_true, ite_true, ite_false]
    · simp only [sF_pi, sF_pl, sF_ai, sF_al, sG_pi, sG_pl, sG_ai, sG_al, sI_pi, sI_pl, sI_al, sI_ai1, sI_ai2, sJ_pi, sJ_pl, sJ_ai, sJ_al1, sJ_al2, Nat.reduceEqDiff, if_true, if_false, ne_eq, not_false_eq_true, ite_true, ite_false]
    · intro x x0; simp (disch := lia) only [sF_pi, sF_pl, sF_ai, sF_al, sG_pi, sG_pl, sG_ai, sG_al, sI_pi, sI_pl, sI_al, sI_ai1, sI_ai2, sJ_pi, sJ_pl, sJ_ai, sJ_al1, sJ_al2, Nat.reduceEqDiff, if_true, if_false, ne_eq, not_false_eq_true, ite_true, ite_false, sI_ai, true_and]
    · intro x x0; simp (disch := lia) only [sF_pi, sF_pl, sF_ai, sF_al, sG_pi, sG_pl, sG_ai, sG_al, sI_pi, sI_pl, sI_al, sI_ai1, sI_ai2, sJ_pi, sJ_pl, sJ_ai, sJ_al1, sJ_al2, Nat.reduceEqDiff, if_true, if_false, ne_eq, not_false_eq_true, ite_true, ite_false, sI_ai, true_and]
    · intro x x0; simp (disch := lia) only [sF_pi, sF_pl, sF_ai, sF_al, sG_pi, sG_pl, sG_ai, sG_al, sI_pi, sI_pl, sI_al, sI_ai1, sI_ai2, sJ_pi, sJ_pl, sJ_ai, sJ_al1, sJ_al2, Nat.reduceEqDiff, if_true, if_false, ne_eq, not_false_eq_true, ite_true, ite_false, sI_ai, true_and]
    · intro x x0; simp (disch := lia) only [sF_pi, sF_pl, sF_ai, sF_al, sG_pi, sG_pl, sG_ai, sG_al, sI_pi, sI_pl, sI_al, sI_ai1, sI_ai2, sJ_pi, sJ_pl, sJ_ai, sJ_al1, sJ_al2, Nat.reduceEqDiff, if_true, if_false, ne_eq, not_false_eq_true, ite_true, ite_false, sJ_al, true_and]
    · simp only [sF_pi, sF_pl, sF_ai, sF_al, sG_pi, sG_pl, sG_ai, sG_al, sI_pi, sI_pl, sI_al, sI_ai1, sI_ai2, sJ_pi, sJ_pl, sJ_ai, sJ_al1, sJ_al2, Nat.reduceEqDiff, if_true, if_false, ne_eq, not_false_eq_true, ite_true, ite_false]
      refine al _ _ ?_ (fun q => absurd q hb1) (fun _ => ⟨rfl, ?_, fun x x0 x1 x2 x3 => ?_⟩)
      · simp (disch := lia) only [sF_pi, sF_pl, sF_ai, sF_al, sG_pi, sG_pl, sG_ai, sG_al, sI_pi, sI_pl, sI_al, sI_ai1, sI_ai2, sJ_pi, sJ_pl, sJ_ai, sJ_al1, sJ_al2, Nat.reduceEqDiff, if_true, if_false, ne_eq, not_false_eq_true, ite_true, ite_false, sI_ai, true_and, if_neg]
      · simp (disch := lia) only [sF_pi, sF_pl, sF_ai, sF_al, sG_pi, sG_pl, sG_ai, sG_al, sI_pi, sI_pl, sI_al, sI_ai1, sI_ai2, sJ_pi, sJ_pl, sJ_ai, sJ_al1, sJ_al2, Nat.reduceEqDiff, if_true, if_false, ne_eq, not_false_eq_true, ite_true, ite_false]
      · simp (disch := lia) only [sF_pi, sF_pl, sF_ai, sF_al, sG_pi, sG_pl, sG_ai, sG_al, sI_pi, sI_pl, sI_al, sI_ai1, sI_ai2, sJ_pi, sJ_pl, sJ_ai, sJ_al1, sJ_al2, Nat.reduceEqDiff, if_true, if_false, ne_eq, not_false_eq_true, ite_true, ite_false, sI_ai]
        rw [if_neg (fun q => x3 q.2), if_neg (fun q => x2 q.2)]
/-- boxes: bs in use, fb free -/
def BX (σ : mS) (bs fb : List Int32) : Prop := seg (sI σ 235) (sF σ 236) fb (-1) ∧ (bs ++ fb).Nodup ∧ (∀ b, b ∈ bs ++ fb → 0 ≤ b ∧ b < 12000) ∧ (sF σ 237).toInt = bs.length ∧ bs.length + fb.length = 12000
def bXk (k : Nat) : Bool := [233, 234, 236, 237].contains k
theorem box_x0 {N : Nat} {σ : mS} {t : Int32} {v : Int64} (h : sF σ 237 = 12000) : xx3_box N σ t v = some (.error (1101, σ)) := by
  rw [xx3_box, if_pos]; exact h
theorem box_x {N : Nat} {σ : mS} {bs fb : List Int32} {t : Int32} {v : Int64} (H : BX σ bs fb) (g0 : 0 ≤ t) (g1 : t ≤ 8) (hc : sF σ 237 ≠ 12000) : ∃ b τ fb', fb = b :: fb' ∧ xx3_box N σ t v = some (.ok (b, τ)) ∧ BX τ (b :: bs) fb' ∧ b ∉ bs ∧ 0 ≤ b ∧ b < 12000 ∧ (∀ x, 0 ≤ x → sI τ 233 x = if x = b then t else sI σ 233 x) ∧ (∀ x, 0 ≤ x → sJ τ 234 x = if x = b then v else sJ σ 234 x) ∧ sF τ 237 = sF σ 237 + 1 ∧ m_fr bXk σ τ := by
  obtain ⟨H1, H2, H3, H4, H5⟩ := H
  cases fb with
  | nil =>
    exfalso
    apply hc
    rw [tI_eq]
    simp only [List.length_nil] at H5
    have z : (12000 : Int32).toInt = 12000 := rfl
    omega
  | cons b fb =>
    obtain ⟨b0, b1⟩ := H3 b (by simp)
    have fb0 : sF σ 236 = b := H1.1
    have nt := nar_tag g0 g1
    have nb : b ∉ bs := fun q => (List.nodup_append.mp H2).2.2 b q b (by simp) rfl
    refine ⟨b, md_al (md_ai (md_pi (md_pi σ 236 (sI σ 235 b)) 237 (sF σ 237 + 1)) 233 b.toNatClampNeg t) 234 b.toNatClampNeg v, fb, rfl, ?_, ⟨?_, ?_, fun x hx => ?_, ?_, ?_⟩, nb, b0, b1, fun x x0 => ?_, fun x x0 => ?_, ?_, mf_al (mf_ai (mf_pi (mf_pi mf_rfl rfl) rfl) rfl) rfl⟩
    · clear H1 H3
      simp (disch := lia) only [xx3_box, lt, gd_in, if_pos, if_neg, ↓reduceIte, gd_z0, gd_z1, gd_tt, sF_fold, sG_fold, sI_fold, sJ_fold, sF_pi, sF_pl, sF_ai, sF_al, sG_pi, sG_pl, sG_ai, sG_al, sI_pi, sI_pl, sI_al, sI_ai1, sI_ai2, sJ_pi, sJ_pl, sJ_ai, sJ_al1, sJ_al2, Nat.reduceEqDiff, if_true, if_false, ne_eq, not_false_eq_true, ite_true, ite_false, fb0, hc, nt]
    · simp only [sF_pi, sF_pl, sF_ai, sF_al, sG_pi, sG_pl, sG_ai, sG_al, sI_pi, sI_pl, sI_al, sI_ai1, sI_ai2, sJ_pi, sJ_pl, sJ_ai, sJ_al1, sJ_al2, Nat.reduceEqDiff, if_true, if_false, ne_eq, not_false_eq_true, ite_true, ite_false]
      refine seg_congr H1.2 (fun x _ => ?_)
      simp (disch := lia) only [sF_pi, sF_pl, sF_ai, sF_al, sG_pi, sG_pl, sG_ai, sG_al, sI_pi, sI_pl, sI_al, sI_ai1, sI_ai2, sJ_pi, sJ_pl, sJ_ai, sJ_al1, sJ_al2, Nat.reduceEqDiff, if_true, if_false, ne_eq, not_false_eq_true, ite_true, ite_false]
    · exact (List.perm_middle (a := b) (l₁ := bs) (l₂ := fb)).nodup_iff.mp H2
    · exact H3 x ((List.perm_middle (a := b) (l₁ := bs) (l₂ := fb)).mem_iff.mpr hx)
    · simp only [sF_pi, sF_pl, sF_ai, sF_al, sG_pi, sG_pl, sG_ai, sG_al, sI_pi, sI_pl, sI_al, sI_ai1, sI_ai2, sJ_pi, sJ_pl, sJ_ai, sJ_al1, sJ_al2, Nat.reduceEqDiff, if_true, if_false, ne_eq, not_false_eq_true, ite_true, ite_false, List.length_cons]
      simp only [List.length_cons] at H5
      have r := tI_rng (sF σ 237)
      rw [tI_add] <;> simp only [show (1 : Int32).toInt = 1 from rfl] <;> omega
    · simp only [List.length_cons] at H5 ⊢; omega
    · simp (disch := lia) only [sF_pi, sF_pl, sF_ai, sF_al, sG_pi, sG_pl, sG_ai, sG_al, sI_pi, sI_pl, sI_al, sI_ai1, sI_ai2, sJ_pi, sJ_pl, sJ_ai, sJ_al1, sJ_al2, Nat.reduceEqDiff, if_true, if_false, ne_eq, not_false_eq_true, ite_true, ite_false, sI_ai, true_and]
    · simp (disch := lia) only [sF_pi, sF_pl, sF_ai, sF_al, sG_pi, sG_pl, sG_ai, sG_al, sI_pi, sI_pl, sI_al, sI_ai1, sI_ai2, sJ_pi, sJ_pl, sJ_ai, sJ_al1, sJ_al2, Nat.reduceEqDiff, if_true, if_false, ne_eq, not_false_eq_true, ite_true, ite_false, sJ_al, true_and]
    · simp only [sF_pi, sF_pl, sF_ai, sF_al, sG_pi, sG_pl, sG_ai, sG_al, sI_pi, sI_pl, sI_al, sI_ai1, sI_ai2, sJ_pi, sJ_pl, sJ_ai, sJ_al1, sJ_al2, Nat.reduceEqDiff, if_true, if_false, ne_eq, not_false_eq_true, ite_true, ite_false]
