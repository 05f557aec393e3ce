/-! LAYER 2: the two readers: beginnings of expressions; signs of two sides -/
theorem unary_2 {N : Nat} (hN : BIG ≤ N) {n p e : Int32} {t : Int32 → Int32} {A : Nat → Int} {o d dm f g : Nat} {w : WD} {c : Int} {σ μ : mS} {v : Int32} (S : SCx N n t A o) (H : ∀ o', o = o' + 1 → CEx N n t A o') (h : PS n t A w p e o c σ μ) (hc : c ≤ 400) (hd : 20 * o + 18 ≤ d) (hdm : 14 * o + 8 ≤ dm) (v0 : 0 ≤ v.toInt) (hv : v ≤ sF μ 133) (h133 : tF μ 133 ≤ 12 * (40 - o) + 10) (hf : n.toInt - p.toInt < (f : Int)) (hg : n.toInt - p.toInt < (g : Int)) : RUx N n t A w o c p σ μ ((rc_xx10_arguments N (d + 1)).2.2.2.2.2.2.2.2.2.2.2.2.2.2.2.2.1 σ) (rc_expression N dm) (mm_expression_18 N (rc_expression N dm) (mm_expression_7 N (rc_expression N dm) f) g v μ) v := by
  have pn := PS_pn h
  have tk := PS_tk h
  obtain ⟨f, rfl⟩ : ∃ j, f = j + 1 := ⟨f - 1, by omega⟩
  obtain ⟨g, rfl⟩ : ∃ j, g = j + 1 := ⟨g - 1, by omega⟩
  show RUx N n t A w o c p σ μ (bxx10_unary N (rc_xx10_arguments N d) σ) _ _ v
  by_cases u : isUn (sF σ 707)
  · have pe : p.toInt + 1 ≤ e.toInt := by
      obtain ⟨⟨_, _, _, _, _, _, _, kd, _⟩, _⟩ := h
      rcases kd with q | q
      · exact absurd q.1 (un_own u).2.2
      · have := tI_lt.mp q.1; omega
    obtain ⟨g, rfl⟩ : ∃ j, g = j + 1 := ⟨g - 1, by omega⟩
    cases o with
    | zero => exact un_f hN h hc u (by omega)
    | succ o => exact un_y hN (H o rfl) h hc u (by omega) (by omega) v0 hv (by omega) (by omega) (by omega)
  · obtain ⟨r, σ', μ', e1, e2, f1, f2, res⟩ := S d dm w p e c σ μ (by omega) (by omega) h hc h133
    rw [un_xn h.2.1.1 u, e1, bd_so]
    have y : mm_expression_18 N (rc_expression N dm) (mm_expression_7 N (rc_expression N dm) (f + 1)) (g + 1) v μ = mm_expression_65 N (rc_expression N dm) (mm_expression_7 N (rc_expression N dm) (f + 1)) v μ' := by
      rw [mm_expression_18, if_pos (show μ.1 67 = 0 from h.2.1.2), isU_n tk u, bd_so]
      dsimp only
      rw [if_pos rfl, mm_expression_54, if_pos (show μ.1 67 = 0 from h.2.1.2), e2, bd_so]
    rw [y]
    refine ⟨r, σ', rfl, f1, ?_⟩
    rcases res with fl | ⟨p', gx⟩
    · exact .inl ⟨μ', e65_f hN (FLw_1 fl).2, f2, fl⟩
    · right
      obtain ⟨w', e', ww, ps, ⟨kp, _⟩, _, _, pp, _⟩ := gx 0
      have k : sF μ' 133 = sF μ 133 := kp.1.2.2.1
      refine ⟨μ', p', f + 1, N, ?_, f2, gx, by omega, ?_⟩
      · rw [mm_expression_65, if_pos (show μ'.1 67 = 0 from ps.2.1.2), bd_m, bd_so]
        rfl
      · have q : tF μ' 133 = tF μ 133 := by unfold tF; rw [k]
        have i : 1000000 ≤ N := Nat.le_trans (by decide) hN
        omega
theorem pi_self {σ : mS} {k : Nat} : md_pi σ k (sF σ k) = σ := by
  refine Prod.ext (funext fun j => ?_) rfl
  rw [pi_F]
  by_cases c : j = k
  · rw [if_pos c, c]; rfl
  · rw [if_neg c]
/-- the reference's sign of two sides -/
theorem bin_two {N : Nat} {μ μ2 : mS} (hv : mm_value N μ = some μ2) (f : m_fr fOp μ μ2) (h67 : sF μ 67 = 0) (g : inB (sF μ 133) 2048 = true) (n1 : ¬ sF μ 60 = 10) (n2 : ¬ sF μ 60 = 25) (n3 : ¬ sF μ 60 = 308) : mm_binary N μ = mm_next N (pshS (md_pi μ2 69 (sF μ2 69)) (sF μ 60) (sF μ 63) 0) := by
  have e60 : μ2.1 60 = sF μ 60 := mf_F f rfl
  have e63 : μ2.1 63 = sF μ 63 := mf_F f rfl
  rw [mm_binary, hv, bd_so, e60, if_neg n1, if_neg n2, if_neg n3, mm_binary_71, e60, e63, hang_m (show sF μ2 67 = 0 from (mf_F f rfl).trans h67) (by rw [mf_F f rfl]; exact g), pi_self]
  cases mm_next N (pshS μ2 (sF μ 60) (sF μ 63) 0) with
  | none => rfl
  | some z => rfl
theorem bin_join {N : Nat} {μ μ2 : mS} (hv : mm_value N μ = some μ2) (f : m_fr fOp μ μ2) (h67 : sF μ 67 = 0) (g : inB (sF μ 133) 2048 = true) (n3 : sF μ 60 = 308) (h69 : ¬ sF μ 69 = 40) : mm_binary N μ = mm_next N (pshS (md_pi μ2 69 (sF μ2 69 + 1)) (sF μ 60) (sF μ 63) 0) := by
  have e60 : μ2.1 60 = sF μ 60 := mf_F f rfl
  have e63 : μ2.1 63 = sF μ 63 := mf_F f rfl
  have n1 : ¬ sF μ 60 = 10 := by rw [n3]; decide
  have n2 : ¬ sF μ 60 = 25 := by rw [n3]; decide
  rw [mm_binary, hv, bd_so, e60, if_neg n1, if_neg n2, if_pos n3, open_y (by rw [mf_F f rfl]; exact h69), bd_so, mm_binary_71, show (md_pi μ2 69 (sF μ2 69 + 1)).1 60 = sF μ 60 from e60, show (md_pi μ2 69 (sF μ2 69 + 1)).1 63 = sF μ 63 from e63, hang_m (show sF (md_pi μ2 69 (sF μ2 69 + 1)) 67 = 0 from (mf_F f (k := 67) rfl).trans h67) (show inB (sF μ2 133) 2048 = true by rw [mf_F f rfl]; exact g)]
  cases mm_next N (pshS (md_pi μ2 69 (sF μ2 69 + 1)) (sF μ 60) (sF μ 63) 0) with
  | none => rfl
  | some z => rfl
theorem bin_join0 {N : Nat} {μ μ2 : mS} (hv : mm_value N μ = some μ2) (f : m_fr fOp μ μ2) (h67 : sF μ 67 = 0) (n3 : sF μ 60 = 308) (h69 : sF μ 69 = 40) : mm_binary N μ = some (flM μ2) := by
  have e60 : μ2.1 60 = sF μ 60 := mf_F f rfl
  have n1 : ¬ sF μ 60 = 10 := by rw [n3]; decide
  have n2 : ¬ sF μ 60 = 25 := by rw [n3]; decide
  rw [mm_binary, hv, bd_so, e60, if_neg n1, if_neg n2, if_pos n3, open_0 ((mf_F f rfl).trans h67) ((mf_F f rfl).trans h69), bd_so, mm_binary_71, hang_f rfl]
  rfl
theorem bin_log {N : Nat} {μ μ2 μ3 μ4 : mS} {i : Int32} (hv : mm_value N μ = some μ2) (f : m_fr fOp μ μ2) (h67 : sF μ 67 = 0) (g : inB (sF μ 133) 2048 = true) (n1 : sF μ 60 = 10 ∨ sF μ 60 = 25) (he : mm_emit N μ2 (if sF μ 60 = 10 then 30 else 31) 0 0 0 0 = some (i, μ3)) (hh : mm_higher N μ3 (-1) = some μ4) (f3 : m_fr fOp μ2 μ4) : mm_binary N μ = mm_next N (pshS (md_pi μ4 69 (sF μ4 69)) (sF μ 60) (sF μ 63) i) := by
  have e60 : μ2.1 60 = sF μ 60 := mf_F f rfl
  have e60' : μ4.1 60 = sF μ 60 := (mf_F f3 rfl).trans e60
  have e63 : μ4.1 63 = sF μ 63 := (mf_F f3 rfl).trans (mf_F f rfl)
  have q : ∀ a, mm_emit N μ2 a 0 0 0 0 = some (i, μ3) → mm_binary_41 N a μ2 = mm_next N (pshS (md_pi μ4 69 (sF μ4 69)) (sF μ 60) (sF μ 63) i) := fun a ha => by
    rw [mm_binary_41, ha, bd_so]
    dsimp only
    rw [hh, bd_so, mm_binary_71, e60', e63, hang_m (show sF μ4 67 = 0 from (mf_F f3 rfl).trans ((mf_F f rfl).trans h67)) (by rw [mf_F f3 rfl, mf_F f rfl]; exact g), pi_self]
    cases mm_next N (pshS μ4 (sF μ 60) (sF μ 63) i) with
    | none => rfl
    | some z => rfl
  rw [mm_binary, hv, bd_so, e60]
  by_cases c : sF μ 60 = 10
  · rw [if_pos c, mm_binary_24, e60, if_pos c]
    rw [if_pos c] at he
    exact q _ he
  · have c2 : sF μ 60 = 25 := n1.elim (fun z => absurd z c) id
    rw [if_neg c, if_pos c2, mm_binary_24, e60, if_neg c]
    rw [if_neg c] at he
    exact q _ he
/-- the system, from the sign's node to behind its right side -/
theorem bin_x {N j : Nat} {T : ty_xx10_arguments} {l r1 b x b' r : Int32} {d : Int32} {σ2 σ3 σ5 : mS} (gx : inB x 13000 = true) (hd : d = 0 ∨ d = 1) (hb : b' = b - d) (h44 : d = 1 → ¬ sF σ2 644 = 40) (e1 : xx11_next N (md_pi σ2 644 (sF σ2 644 + d)) = some σ3) (e2 : T.2.2.2.2.2.1 (md_ai σ3 577 x.toNatClampNeg r1) b' = some (r, σ5)) : xx10_expression_2_b74 N T (xx10_expression_2_b27 N T j) l r1 b x d σ2 = (if sF σ5 646 = 0 then xx10_expression_2_b27 N T j l x (bdx (sF σ5 707)) (md_pi (md_ai σ5 578 x.toNatClampNeg r) 644 (sF σ5 644 - d)) else xx10_expression_2_b27 N T j l x 0 (md_pi (md_ai σ5 578 x.toNatClampNeg r) 644 (sF σ5 644 - d))) := by
  have e174 : ∀ d', d' = d → xx10_expression_2_b174 N T (xx10_expression_2_b27 N T j) l x (sF σ5 644) d' (md_ai σ5 578 x.toNatClampNeg r) = (if sF σ5 646 = 0 then xx10_expression_2_b27 N T j l x (bdx (sF σ5 707)) (md_pi (md_ai σ5 578 x.toNatClampNeg r) 644 (sF σ5 644 - d)) else xx10_expression_2_b27 N T j l x 0 (md_pi (md_ai σ5 578 x.toNatClampNeg r) 644 (sF σ5 644 - d))) := fun d' hd' => by
    rw [hd', xx10_expression_2_b174, lt_e, show (md_pi (md_ai σ5 578 x.toNatClampNeg r) 644 (sF σ5 644 - d)).1 646 = sF σ5 646 from rfl]
    by_cases c : sF σ5 646 = 0
    · rw [if_pos c, if_pos c, bd_x, bd_so]
      rfl
    · rw [if_neg c, if_neg c]
      rfl
  have e155 : xx10_expression_2_b155 N T (xx10_expression_2_b27 N T j) l x d x b' (md_ai σ3 577 x.toNatClampNeg r1) = (if sF σ5 646 = 0 then xx10_expression_2_b27 N T j l x (bdx (sF σ5 707)) (md_pi (md_ai σ5 578 x.toNatClampNeg r) 644 (sF σ5 644 - d)) else xx10_expression_2_b27 N T j l x 0 (md_pi (md_ai σ5 578 x.toNatClampNeg r) 644 (sF σ5 644 - d))) := by
    rw [xx10_expression_2_b155, e2, bd_so]
    dsimp only
    rw [gd_of gx, lt_e, show (md_ai σ5 578 x.toNatClampNeg r).1 644 = sF σ5 644 from rfl]
    rcases hd with z | z
    · rw [if_pos z]; exact e174 0 z.symm
    · rw [if_neg (by rw [z]; decide)]; exact e174 1 z.symm
  have e111 : ∀ d', d' = d → xx10_expression_2_b111 N T (xx10_expression_2_b27 N T j) l r1 b x d (sF σ2 644) d' σ2 = (if sF σ5 646 = 0 then xx10_expression_2_b27 N T j l x (bdx (sF σ5 707)) (md_pi (md_ai σ5 578 x.toNatClampNeg r) 644 (sF σ5 644 - d)) else xx10_expression_2_b27 N T j l x 0 (md_pi (md_ai σ5 578 x.toNatClampNeg r) 644 (sF σ5 644 - d))) := fun d' hd' => by
    rw [hd', xx10_expression_2_b111, lt_e, e1, bd_so, gd_of gx, lt_e, ← e155, hb]
    rcases hd with z | z
    · rw [if_pos z, z, Int32.sub_zero]
    · rw [if_neg (by rw [z]; decide), z]
  rcases hd with z | z
  · rw [xx10_expression_2_b74, if_pos z, xx10_expression_2_b96, if_pos z]
    exact e111 0 z.symm
  · rw [xx10_expression_2_b74, if_neg (by rw [z]; decide), if_neg (show ¬ σ2.1 644 = 40 from h44 z), xx10_expression_2_b96, if_neg (by rw [z]; decide)]
    exact e111 1 z.symm
