/-! LAYER 2: the heap while a function of the house is at hand -/
theorem ME_hp {P Q : Nat → Bool} {S : SR} {K : Int32 → Int32 → Int32 → Prop} {q : Int} {w w' : WD} {xf : Int32 → List Int32} {c d : Int32} {rest : PL2} {σ μ τ τm : mS} (H : ME S K q w xf c d rest σ μ) (R : RH K (q + fQ μ) w' τ τm) (wl : wle w w') (hC : wC w' = wC w) (hS : wS w' = wS w) (hX : wX w' = wX w) (hc : cds w σ τ) (fr : m_fr P σ τ) (frm : m_fr Q μ τm) (hp : ∀ k, k < 194 ∨ 237 < k → P k = false) (hq : ∀ k, k < 16 ∨ 57 < k → Q k = false) (h44 : ∀ k, k < 46 → τm.2.2.1 44 k = μ.2.2.1 44 k) : ME S K q w' xf c d rest τ τm := by
  have Z : ZS w' τ := fun a b h => by
    rw [hS, hX] at h
    have := H.2.1 a b h
    simp only [x_sz] at this ⊢
    rw [mf_I fr (hp 129 (by omega))]; exact this
  refine ME_fr H R Z (HO_fr H.2.2.1 wl fr frm (fun k hk => hp k (by omega)) (fun k a b => hq k (by omega)) (fun a b _ => xL_fr fr (fun k h1 h2 => hp k (by omega))) h44) wl hC hc fr frm (fun k hk => ?_) (fun k hk => ?_)
  · simp only [kX] at hk; exact hp k (by omega)
  · simp only [kM] at hk; exact hq k (by omega)
theorem SV_hp {P Q : Nat → Bool} {e : EV} {w w' : WD} {σ μ τ τm : mS} (H : SV e w σ μ) (wl : wle w w') (fr : m_fr P σ τ) (frm : m_fr Q μ τm) (hp : ∀ k, k < 194 ∨ 237 < k → P k = false) (hq : ∀ k, k < 16 ∨ 57 < k → Q k = false) : SV e w' τ τm := by
  refine SV_fr H wl fr frm (fun k hk => ?_) (fun k hk => ?_)
  · refine hp k ?_
    rcases hk with hk | hk
    · have := xR_f hk; omega
    · omega
  · refine hq k ?_
    rcases hk with hk | hk
    · have := @mR_t k
      by_cases c : 2 ≤ k ∧ k ≤ 57
      · rw [this (.inl c)] at hk; exact absurd hk (by decide)
      · omega
    · omega
theorem LM_hp {P Q : Nat → Bool} {L : LQ} {w w' : WD} {σ μ τ τm : mS} (H : LM L w σ μ) (R : RH (eK (lE L)) (eQ (lE L) + fQ μ) w' τ τm) (wl : wle w w') (hC : wC w' = wC w) (hS : wS w' = wS w) (hX : wX w' = wX w) (hc : cds w σ τ) (fr : m_fr P σ τ) (frm : m_fr Q μ τm) (hp : ∀ k, k < 194 ∨ 237 < k → P k = false) (hq : ∀ k, k < 16 ∨ 57 < k → Q k = false) (h44 : ∀ k, k < 46 → τm.2.2.1 44 k = μ.2.2.1 44 k) : LM L w' τ τm :=
  ⟨CL_fr H.1 (ME_hp H.1.1 R wl hC hS hX hc fr frm hp hq h44) (SV_hp H.1.2.1 wl fr frm hp hq) wl hc fr frm (fun k hk => by simp only [kX] at hk; exact hp k (by omega)) (fun k hk => by simp only [kM] at hk; exact hq k (by omega)), by rw [mf_F fr (hp 396 (by omega))]; exact H.2.1, by rw [mf_F frm (hq 154 (by omega))]; exact H.2.2⟩
theorem LC_hp {P Q : Nat → Bool} {L : LQ} {w w' : WD} {g : Int32} {σ μ τ τm : mS} (H : LC L w g σ μ) (R : RH (eK (lE L)) (eQ (lE L) + fQ μ) w' τ τm) (wl : wle w w') (hC : wC w' = wC w) (hS : wS w' = wS w) (hX : wX w' = wX w) (hc : cds w σ τ) (fr : m_fr P σ τ) (frm : m_fr Q μ τm) (hp : ∀ k, k < 194 ∨ 237 < k → P k = false) (hq : ∀ k, k < 16 ∨ 57 < k → Q k = false) (h44 : ∀ k, k < 46 → τm.2.2.1 44 k = μ.2.2.1 44 k) : LC L w' g τ τm :=
  LC_fr H (LM_hp H.1 R wl hC hS hX hc fr frm hp hq h44) wl fr frm (fun k hk => hp k (by omega)) (fun k hk => hq k (by omega))
theorem wT_eq {w : WD} {a b : Int32} : wC (wAddT w a b) = wC w ∧ wS (wAddT w a b) = wS w ∧ wX (wAddT w a b) = wX w := ⟨rfl, rfl, rfl⟩
theorem ir_f {a b k : Nat} (h : k < a ∨ b < k) : inR a b k = false := inR_f h
/-- what a break-off changes -/
def oB (k : Nat) : Bool := [143, 154, 155, 156, 178, 179, 181].contains k
theorem o_fr5 {N : Nat} : ∀ (n : Nat) (i : Int32) (μ τ : mS), mm_allDead_5 N n i μ = some τ → m_fr oB μ τ
  | 0, _, _, _, h => nomatch h
  | n + 1, i, μ, τ, h => by
    simp only [mm_allDead_5, lt] at h
    by_cases c : i = 120
    · rw [if_pos c] at h; cases h; exact mf_pi (mf_pi (mf_pi mf_rfl rfl) rfl) rfl
    · rw [if_neg c] at h
      exact mf_tr (mf_ai mf_rfl rfl) (o_fr5 n _ _ τ (gd_s (gd_s h)))
theorem o_fr {N : Nat} {a : Int32} {μ τ : mS} (h : mm_breakOff N μ a = some τ) : m_fr oB μ τ := by
  simp only [mm_breakOff, lt, sF_fold] at h
  by_cases c : sF μ 178 = 0
  · rw [if_pos c] at h
    replace h := gd_s h
    cases e : mm_lineAtHand N (md_pi (md_pi μ 178 1) 179 a) with
    | none => rw [e] at h; exact nomatch h
    | some y =>
      rw [e] at h
      simp only [bd] at h
      cases e' : mm_allDead N (md_pi y.2 181 y.1) with
      | none => rw [e'] at h; exact nomatch h
      | some x =>
        rw [e'] at h
        cases h
        simp only [mm_allDead, lt] at e'
        have r := o_fr5 _ _ _ _ e'
        rw [o_lineAtHand e] at r
        exact mf_tr (mf_pi (mf_pi (mf_pi mf_rfl rfl) rfl) rfl) r
  · rw [if_neg c] at h; cases h; exact mf_rfl
def pB (k : Nat) : Bool := inR 21 41 k || oB k
/-- set and put -/
theorem put_L {α : Type} {L : LQ} (E : EVok (lE L)) {w : WD} {g a b kx km tx tm : Int32} {vx vm yx ym : Int64} {σ μ : mS} (H : LC L w g σ μ) (h : (a, b) ∈ wT w) (k : VV w kx vx km vm) (k0 : kx ≠ 0) (v : VV w tx yx tm ym) {f : mS → Option (Except (Nat × mS) α)} {k' : Int32 × mS → Option mS} (hk : ∀ z, sF z 178 ≠ 0 → sF z 190 = g → m_fr pB μ z → ∃ z', k' (0, z) = some z' ∧ m_fr tK z z') : (∃ τ τm, xx3_put (lNn L) σ a kx vx tx yx = some (.ok τ) ∧ mm_set (lNn L) μ b km vm tm ym = some (1, τm) ∧ LC L w g τ τm ∧ m_fr (inR 197 221) σ τ ∧ m_fr (inR 21 41) μ τm) ∨ OEL (α := α) L w (bx (xx3_put (lNn L) σ a kx vx tx yx) f) (bd (mm_set (lNn L) μ b km vm tm ym) k') := by
  obtain ⟨τ, τm, R, fr, frm, o⟩ := put_h (EV_N E) H.1.1.1.1.1 h k k0 (VV_8 k) v
  have L1 := LC_hp H R wle_rfl rfl rfl rfl (cds_fr fr (ir_f (by omega)) (ir_f (by omega)) (ir_f (by omega))) fr frm (fun k hk => ir_f (by omega)) (fun k hk => ir_f (by omega)) (fun k _ => by rw [frm.2.2.1 44 (ir_f (by omega))])
  rcases o with ⟨o1, o2⟩ | ⟨o1, o2⟩
  · exact .inl ⟨τ, τm, o1, o2, L1, fr, frm⟩
  · refine .inr (.inr ⟨w, τ, τm, 1101, 3, .inl ⟨rfl, rfl⟩, ?_, fun μ' hm => ?_, L1.1.1⟩)
    · show bx (xx3_put (eN (lE L)) σ a kx vx tx yx) f = _
      rw [o1]; rfl
    · have o3 := o_breakOff hm
      obtain ⟨z', z1, z2⟩ := hk μ' o3 ((o_190 hm).trans L1.2.2.2.1.2.1) (mf_tr (mf_mono frm (fun k hk => (Bool.or_eq_false_iff.mp hk).1)) (mf_mono (o_fr hm) (fun k hk => (Bool.or_eq_false_iff.mp hk).2)))
      refine ⟨z', ?_, z2, by rw [tK_178 z2]; exact o3⟩
      show bd (mm_set (eN (lE L)) μ b km vm tm ym) k' = _
      have hm' : mm_breakOff (eN (lE L)) τm 3 = some μ' := hm
      rw [o2, hm']
      exact z1
/-- a table is made -/
theorem table_L {α : Type} {L : LQ} {w : WD} {g : Int32} {σ μ : mS} (H : LC L w g σ μ) {f : Int32 × mS → Option (Except (Nat × mS) α)} {k' : Int32 × mS → Option mS} (hk : ∀ z, sF z 178 ≠ 0 → sF z 190 = g → ∃ z', k' (-1, z) = some z' ∧ m_fr tK z z') : (∃ a b τ τm, xx3_table (lNn L) σ = some (.ok (a, τ)) ∧ mm_makeTable (lNn L) μ = some (b, τm) ∧ 0 ≤ a ∧ 0 ≤ b ∧ LC L (wAddT w a b) g τ τm ∧ m_fr hT σ τ ∧ m_fr mT μ τm) ∨ OEL (α := α) L w (bx (xx3_table (lNn L) σ) f) (bd (mm_makeTable (lNn L) μ) k') := by
  rcases table_h (N := eN (lE L)) H.1.1.1.1.1 with ⟨o1, o2⟩ | ⟨a, b, τ, τm, o1, o2, R, a0, b0, fr, frm⟩
  · refine .inr (.inr ⟨w, σ, μ, 1101, 3, .inl ⟨rfl, rfl⟩, ?_, fun μ' hm => ?_, H.1.1⟩)
    · show bx (xx3_table (eN (lE L)) σ) f = _
      rw [o1]; rfl
    · have o3 := o_breakOff hm
      obtain ⟨z', z1, z2⟩ := hk μ' o3 ((o_190 hm).trans H.2.2.2.1.2.1)
      refine ⟨z', ?_, z2, by rw [tK_178 z2]; exact o3⟩
      show bd (mm_makeTable (eN (lE L)) μ) k' = _
      have hm' : mm_breakOff (eN (lE L)) μ 3 = some μ' := hm
      rw [o2, hm']
      exact z1
  · have p : ∀ k, k < 194 ∨ 211 < k → hT k = false := fun k hk => by
      simp only [hT, List.contains_cons, List.contains_nil, Bool.or_eq_false_iff, beq_eq_false_iff_ne]
      repeat' apply And.intro
      all_goals first | trivial | omega
    have p' : ∀ k, k < 18 ∨ 30 < k → mT k = false := fun k hk => by
      simp only [mT, List.contains_cons, List.contains_nil, Bool.or_eq_false_iff, beq_eq_false_iff_ne]
      repeat' apply And.intro
      all_goals first | trivial | omega
    refine .inl ⟨a, b, τ, τm, o1, o2, a0, b0, LC_hp H R wAddT_le rfl rfl rfl (cds_fr fr (p _ (by omega)) (p _ (by omega)) (p _ (by omega))) fr frm (fun k hk => p k (by omega)) (fun k hk => p' k (by omega)) (fun k _ => by rw [frm.2.2.1 44 (p' _ (by omega))]), fr, frm⟩
/-- lengths -/
theorem len_L {L : LQ} (E : EVok (lE L)) {w : WD} {g a b : Int32} {σ μ : mS} (H : LC L w g σ μ) (h : (a, b) ∈ wT w) : ∃ n τ τm, xx3_length (lNn L) σ a = some (n, τ) ∧ mm_length (lNn L) μ b = some (Int32.toInt64 n, τm) ∧ 0 ≤ n ∧ n ≤ 20000 ∧ LC L w g τ τm ∧ m_fr hU σ τ ∧ m_fr (fun k => [25, 42, 43].contains k) μ τm := by
  obtain ⟨n, τ, τm, o1, o2, n0, n1, R, fr, frm⟩ := length_h (EV_N E) H.1.1.1.1.1 h
  have p : ∀ k, k < 202 ∨ 208 < k → hU k = false := fun k hk => by
    simp only [hU, List.contains_cons, List.contains_nil, Bool.or_eq_false_iff, beq_eq_false_iff_ne]
    repeat' apply And.intro
    all_goals first | trivial | omega
  have p' : ∀ k, k < 25 ∨ 43 < k → (fun k => [25, 42, 43].contains k) k = false := fun k hk => by
    simp only [List.contains_cons, List.contains_nil, Bool.or_eq_false_iff, beq_eq_false_iff_ne]
    repeat' apply And.intro
    all_goals first | trivial | omega
  exact ⟨n, τ, τm, o1, o2, n0, n1, LC_hp H R wle_rfl rfl rfl rfl (cds_fr fr (p _ (by omega)) (p _ (by omega)) (p _ (by omega))) fr frm (fun k hk => p k (by omega)) (fun k hk => p' k (by omega)) (fun k _ => by rw [frm.2.2.1 44 rfl]), fr, frm⟩
/-- lookups -/
theorem gt_u {μ : mS} {c : Int32} {d : Int64} : m_fr uM μ (gt μ c d) := mf_pl (mf_pi mf_rfl rfl) rfl
theorem live_L {L : LQ} (E : EVok (lE L)) {w : WD} {g a b kx km : Int32} {vx vm : Int64} {σ μ : mS} (H : LC L w g σ μ) (h : (a, b) ∈ wT w) (k : VV w kx vx km vm) (k0 : kx ≠ 0) : ∃ r c d, xx3_live (lNn L) σ a kx vx = some (r, σ) ∧ mm_get (lNn L) μ b km vm = some (gt μ c d) ∧ LC L w g σ (gt μ c d) ∧ ((r = -1 ∧ c = 0 ∧ d = 0) ∨ (0 ≤ r ∧ r < 20000 ∧ sI σ 214 r ≠ 0 ∧ c ≠ 0 ∧ VV w (sI σ 214 r) (sJ σ 215 r) c d)) := by
  obtain ⟨r, c, d, o1, o2, o3⟩ := live_h (EV_N E) H.1.1.1.1.1 h k k0 (VV_8 k)
  exact ⟨r, c, d, o1, o2, LC_u H mf_rfl gt_u, o3⟩
theorem gt_42 {μ : mS} {c : Int32} {d : Int64} : sF (gt μ c d) 42 = c := by simp only [gt, sF_pi, sF_pl, sF_ai, sF_al, sG_pi, sG_pl, sG_ai, sG_al, sI_pi, sI_pl, sI_al, sI_ai1, sI_ai2, sJ_pi, sJ_pl, sJ_ai, sJ_al1, sJ_al2, Nat.reduceEqDiff, if_true, if_false, ne_eq, not_false_eq_true, ite_true, ite_false]
theorem gt_43 {μ : mS} {c : Int32} {d : Int64} : sG (gt μ c d) 43 = d := by simp only [gt, sF_pi, sF_pl, sF_ai, sF_al, sG_pi, sG_pl, sG_ai, sG_al, sI_pi, sI_pl, sI_al, sI_ai1, sI_ai2, sJ_pi, sJ_pl, sJ_ai, sJ_al1, sJ_al2, Nat.reduceEqDiff, if_true, if_false, ne_eq, not_false_eq_true, ite_true, ite_false]
/-- an entry is given -/
theorem entry_L {N : Nat} {L : LQ} {w : WD} {g r c : Int32} {d : Int64} {σ μ : mS} (H : LC L w g σ μ) (g1 : g < 100) (o : (r = -1 ∧ c = 0 ∧ d = 0) ∨ (0 ≤ r ∧ r < 20000 ∧ sI σ 214 r ≠ 0 ∧ c ≠ 0 ∧ VV w (sI σ 214 r) (sJ σ 215 r) c d)) : ∃ τ τm, xx8_giveEntry N σ r = some (.ok τ) ∧ mm_giveValue N μ c d = some τm ∧ LC L w (g + 1) τ τm ∧ m_fr vK σ τ ∧ m_fr vM μ τm := by
  rcases o with ⟨rfl, rfl, rfl⟩ | ⟨r0, r1, _, _, v⟩
  · obtain ⟨τ, τm, a1, a2, a3⟩ := give_L (N := N) H g1 VV_nil
    refine ⟨τ, τm, ?_, a2, a3⟩
    simp only [xx8_giveEntry, xx8_giveNil, xx8_giveEntry_b40, if_true, a1, bx_so]
  · obtain ⟨τ, τm, a1, a2, a3⟩ := give_L (N := N) H g1 v
    refine ⟨τ, τm, ?_, a2, a3⟩
    simp (disch := lia) only [xx8_giveEntry, xx8_give, xx8_giveEntry_b40, lt, gd_in, if_pos, if_neg, ↓reduceIte, gd_z0, gd_z1, gd_tt, sF_fold, sG_fold, sI_fold, sJ_fold, a1, bx_so]
/-- functions are made -/
def wAddF (w : WD) (a b : Int32) : WD := (wS w, wX w, wT w, wF w ++ [(a, b)], wB w, wC w)
theorem wAddF_le {w : WD} {a b : Int32} : wle w (wAddF w a b) := ⟨fun _ h => h, fun _ h => h, fun _ h => h, fun _ h => List.mem_append.mpr (.inl h), fun _ h => h, fun _ h => h⟩
theorem bij_snoc {l : PL2} {a b : Int32} (h : bij l) (ha : a ∉ l.map Prod.fst) (hb : b ∉ l.map Prod.snd) : bij (l ++ [(a, b)]) := by
  intro p q r s h1 h2
  have na : ∀ y, (a, y) ∉ l := fun y hy => ha (List.mem_map_of_mem hy)
  have nb : ∀ x, (x, b) ∉ l := fun x hx => hb (List.mem_map_of_mem hx)
  rcases List.mem_append.mp h1 with k1 | k1 <;> rcases List.mem_append.mp h2 with k2 | k2
  · exact h p q r s k1 k2
  · have e1 := congrArg Prod.fst (List.mem_singleton.mp k2)
    have e2 := congrArg Prod.snd (List.mem_singleton.mp k2)
    simp only at e1 e2
    exact ⟨fun e => absurd (show (a, q) ∈ l by rw [← e1, ← e]; exact k1) (na _), fun e => absurd (show (p, b) ∈ l by rw [← e2, ← e]; exact k1) (nb _)⟩
  · have e1 := congrArg Prod.fst (List.mem_singleton.mp k1)
    have e2 := congrArg Prod.snd (List.mem_singleton.mp k1)
    simp only at e1 e2
    exact ⟨fun e => absurd (show (a, s) ∈ l by rw [← e1, e]; exact k2) (na _), fun e => absurd (show (r, b) ∈ l by rw [← e2, e]; exact k2) (nb _)⟩
  · have e1 := List.mem_singleton.mp k1
    have e2 := List.mem_singleton.mp k2
    have e3 := Prod.mk.inj (e1.trans e2.symm)
    exact ⟨fun _ => e3.2, fun _ => e3.1⟩
theorem fj_1 {x i n M : Int32} (h0 : 0 ≤ x) (i0 : 0 ≤ i) (h1 : i < n) (h2 : x + n ≤ M) (h3 : M ≤ 12000) (h4 : x ≤ x + n) : 0 ≤ x + i ∧ x + i < M := ⟨by lia, by lia⟩
theorem fi_2 {x n : Int32} (h0 : 0 ≤ x) (n0 : 0 ≤ n) (h1 : x ≤ 12000) (h2 : n ≤ 12000) : x ≤ x + n := by lia
theorem fj_5 {x n M : Int32} (h0 : 0 ≤ x) (n0 : 0 ≤ n) (h1 : x ≤ x + n) (h2 : x + n ≤ M) (h3 : M ≤ 12000) : n ≤ 12000 := by lia
theorem fi_3 {x n M k : Int32} (h : x + n ≤ M) (k0 : 0 ≤ k) (h1 : M + k ≤ 12000) (m0 : 0 ≤ M) (h2 : M ≤ 12000) (h3 : k ≤ 12000) : x + n ≤ M + k := by lia
theorem fX_f {k : Nat} (h : k < 194 ∨ 232 < k ∨ (195 ≤ k ∧ k ≤ 221) ∨ k = 231) : fX k = false := by
  simp only [fX, List.contains_cons, List.contains_nil, Bool.or_eq_false_iff, beq_eq_false_iff_ne]
  repeat' apply And.intro
  all_goals first | trivial | omega
theorem fM_f {k : Nat} (h : k < 18 ∨ 52 < k ∨ (19 ≤ k ∧ k ≤ 43) ∨ k = 50 ∨ k = 51) : fM k = false := by
  simp only [fM, List.contains_cons, List.contains_nil, Bool.or_eq_false_iff, beq_eq_false_iff_ne]
  repeat' apply And.intro
  all_goals first | trivial | omega
theorem function_h {N : Nat} {K : Int32 → Int32 → Int32 → Prop} {q : Int} {w : WD} {σ μ : mS} {gx gm n : Int32} (H : RH K q w σ μ) (n0 : 0 ≤ n) (n1 : n ≤ 12000) :
    (xx3_function N σ gx n = some (.error (1101, σ)) ∧ mm_makeFunction N μ gm n = bd (mm_breakOff N μ 3) (fun z => some (-1, z)))
    ∨ (∃ a b τ τm, xx3_function N σ gx n = some (.ok (a, τ)) ∧ mm_makeFunction N μ gm n = some (b, τm) ∧ (0 ≤ a ∧ a < 4000) ∧ (64 ≤ b ∧ b < 4064) ∧ (a ∉ (wF w).map Prod.fst ∧ b ∉ (wF w).map Prod.snd) ∧ m_fr fX σ τ ∧ m_fr fM μ τm ∧ (sI τ 222 a = gx ∧ sI τ 223 a = sF σ 232 ∧ sI τm 46 b = sF μ 52 ∧ sF σ 232 = sF μ 52 ∧ 0 ≤ sF μ 52 ∧ sF μ 52 + n ≤ 12000) ∧ (∀ x, 0 ≤ x → x ≠ a → sI τ 222 x = sI σ 222 x) ∧ (∀ x, 0 ≤ x → x ≠ b → sI τm 44 x = sI μ 44 x) ∧ (∀ τ' τm', m_fr (fun k => k == 231) τ τ' → m_fr (fun k => k == 50) τm τm' → (∀ m, 0 ≤ m → m < sF σ 232 → sI τ' 231 m = sI σ 231 m) → (∀ m, 0 ≤ m → m < sF μ 52 → sI τm' 50 m = sI μ 50 m) → ((0 ≤ gx ∧ 0 ≤ gm ∧ K gx gm n) ∨ (n = 0 ∧ ∃ c d, (c, d) ∈ wC w ∧ gx = -1 - c ∧ gm = -1 - d)) → (∀ i, 0 ≤ i → i < n → (sI τ' 231 (sF σ 232 + i), sI τm' 50 (sF μ 52 + i)) ∈ wB w) → RH K q (wAddF w a b) τ' τm')) := by
  obtain ⟨W, S, ⟨es, es', R⟩, F, B, s1, s2, s3, s4⟩ := H
  obtain ⟨⟨f, F1⟩, F2, F3, F4⟩ := F
  have lX : ((wF w).map Prod.fst).length = (wF w).length := List.length_map ..
  have lM : ((wF w).map Prod.snd).length = (wF w).length := List.length_map ..
  have o7 := F1.1.2.2.2.2.2.2
  have b5 := F2.1.2.2.2.2.2.2
  have z1 : (4000 : Int32).toInt = 4000 := rfl
  have z0 : (0 : Int32).toInt = 0 := rfl
  have cnt : sF σ 230 = 4000 ↔ sF μ 48 = 0 := by
    rw [tI_eq, tI_eq, z1, z0]
    omega
  by_cases c : sF σ 230 = 4000 ∨ 12000 < sF σ 232 + n
  · refine .inl ⟨function_x0 c, function_m0 ?_⟩
    rw [← F3]
    exact c.imp_left cnt.mp
  right
  have c1 : sF σ 230 ≠ 4000 := fun h => c (.inl h)
  have c2 : sF σ 232 + n ≤ 12000 := by
    have : ¬ 12000 < sF σ 232 + n := fun h => c (.inr h)
    lia
  have c2' : sF μ 52 + n ≤ 12000 := by rw [← F3]; exact c2
  obtain ⟨a, τ, x0, f', x1, x2, x3, x4, x5, x6, x7, x8, x9, x10, x11, x12, fr⟩ := function_x (N := N) (c := gx) F1 n0 n1 c1 c2
  obtain ⟨b, τm, y0, y1, y2, y3, y4, y5, y6, y7, y8, y9, y10, frm⟩ := function_m (N := N) (c := gm) F2 n0 n1 (fun z => c1 (cnt.mpr z)) c2'
  have hb0 : 0 ≤ b := by lia
  refine ⟨a, b, τ, τm, x0, y0, ⟨x4, x5⟩, ⟨y3, y4⟩, ⟨x3, y2⟩, fr, frm, ⟨by rw [x6 a x4, if_pos rfl], by rw [x7 a x4, if_pos rfl], by rw [y7 b hb0, if_pos rfl], F3, F2.2.2.1, c2'⟩, fun x hx ne => by rw [x6 x hx, if_neg ne], fun x hx ne => by rw [y5 x hx, if_neg ne], fun τ' τm' g1 g2 k1 k2 lk cp => ?_⟩
  -- frames of both together
  have G1 : m_fr (fun k => fX k || k == 231) σ τ' := mf_tr (mf_mono fr (fun k hk => (Bool.or_eq_false_iff.mp hk).1)) (mf_mono g1 (fun k hk => (Bool.or_eq_false_iff.mp hk).2))
  have G2 : m_fr (fun k => fM k || k == 50) μ τm' := mf_tr (mf_mono frm (fun k hk => (Bool.or_eq_false_iff.mp hk).1)) (mf_mono g2 (fun k hk => (Bool.or_eq_false_iff.mp hk).2))
  have p : ∀ k, (k < 194 ∨ 232 < k ∨ (195 ≤ k ∧ k ≤ 221)) → (fun k => fX k || k == 231) k = false := fun k hk => by
    simp only [Bool.or_eq_false_iff, beq_eq_false_iff_ne]
    exact ⟨fX_f (by omega), by omega⟩
  have p' : ∀ k, (k < 18 ∨ 52 < k ∨ (19 ≤ k ∧ k ≤ 43) ∨ k = 51) → (fun k => fM k || k == 50) k = false := fun k hk => by
    simp only [Bool.or_eq_false_iff, beq_eq_false_iff_ne]
    exact ⟨fM_f (by omega), by omega⟩
  have i1 : ∀ k, k ≠ 231 → ∀ m, sI τ' k m = sI τ k m := fun k hk m => mf_I g1 (by simp only [beq_eq_false_iff_ne]; exact hk)
  have i2 : ∀ k, k ≠ 50 → ∀ m, sI τm' k m = sI τm k m := fun k hk m => mf_I g2 (by simp only [beq_eq_false_iff_ne]; exact hk)
  have f1 : ∀ k, k ≠ 231 → sF τ' k = sF τ k := fun k hk => mf_F g1 (by simp only [beq_eq_false_iff_ne]; exact hk)
  have f2 : ∀ k, k ≠ 50 → sF τm' k = sF τm k := fun k hk => mf_F g2 (by simp only [beq_eq_false_iff_ne]; exact hk)
  have j1 : ∀ m, sJ τ' 225 m = sJ τ 225 m := fun m => mf_J g1 rfl
  have e194 : sG τ' 194 = sG τ 194 := mf_G g1 rfl
  have na : ∀ y, (a, y) ∉ wF w := fun y hy => x3 (List.mem_map_of_mem (f := Prod.fst) hy)
  have nb : ∀ x, (x, b) ∉ wF w := fun x hx => y2 (List.mem_map_of_mem (f := Prod.snd) hx)
  have ser : sF μ 18 < 2147483647 := RH_ser (K := K) (q := q) (w := w) (σ := σ) (μ := μ) ⟨W, S, ⟨es, es', R⟩, ⟨⟨f, F1⟩, F2, F3, F4⟩, B, s1, s2, s3, s4⟩
  have mX : ((wF (wAddF w a b)).map Prod.fst) = (wF w).map Prod.fst ++ [a] := by
    show ((wF w ++ [(a, b)]).map Prod.fst) = _
    rw [List.map_append]; rfl
  have mM : ((wF (wAddF w a b)).map Prod.snd) = (wF w).map Prod.snd ++ [b] := by
    show ((wF w ++ [(a, b)]).map Prod.snd) = _
    rw [List.map_append]; rfl
  refine ⟨?_, ?_, ⟨es, es', RT_fr R wAddF_le rfl G1 G2 (fun k hk => p k (by omega)) (fun k hk => p' k (by omega))⟩, ?_, RB_fr B wAddF_le rfl G1 G2 (fun k a b => p k (by omega)) (fun k a b => p' k (by omega)), ?_, ?_, ?_, s4⟩
  · refine ⟨W.1, bij_snoc W.2.1 x3 y2, W.2.2.1, W.2.2.2.1, fun c d h => ?_, W.2.2.2.2.2⟩
    rcases List.mem_append.mp h with h | h
    · exact W.2.2.2.2.1 c d h
    · obtain ⟨rfl, rfl⟩ := Prod.mk.inj (List.mem_singleton.mp h)
      exact ⟨x4, y3⟩
  · exact RS_fr S G1 G2 (fun k a b => p k (by omega)) (fun k a b c => p' k (by omega))
  · refine ⟨⟨f', ?_⟩, ?_, ?_, fun c d h => ?_⟩
    · rw [mX]
      have e226 : sI τ' 226 = sI τ 226 := funext (i1 226 (by omega))
      have e223 : sI τ' 223 = sI τ 223 := funext (i1 223 (by omega))
      have e224 : sI τ' 224 = sI τ 224 := funext (i1 224 (by omega))
      simp only [CX]
      rw [e226, e223, e224, f1 227 (by omega), f1 228 (by omega), f1 229 (by omega), f1 230 (by omega), f1 232 (by omega)]
      exact x2
    · rw [mM]
      have e47 : sI τm' 47 = sI τm 47 := funext (i2 47 (by omega))
      simp only [CM]
      rw [e47, f2 48 (by omega), f2 49 (by omega), f2 52 (by omega)]
      exact y1
    · rw [f1 232 (by omega), f2 52 (by omega), x11, y9, F3]
    · rw [f2 52 (by omega), y9, j1, i2 44 (by omega), i2 46 (by omega), i2 45 (by omega), i1 222 (by omega), i1 223 (by omega), i1 224 (by omega)]
      rcases List.mem_append.mp h with h | h
      · have ca : c ≠ a := fun e => na d (e ▸ h)
        have db : d ≠ b := fun e => nb c (e ▸ h)
        have rg := CX_mem F1 (List.mem_map_of_mem (f := Prod.fst) h)
        obtain ⟨q1, q2, q3, q4, q5⟩ := F4 c d h
        have d0 : 0 ≤ d := by have := (W.2.2.2.2.1 c d h).2; lia
        rw [x9 c rg.1, y5 d d0, y7 d d0, y6 d d0, x6 c rg.1, x7 c rg.1, x8 c rg.1, if_neg ca, if_neg db, if_neg db, if_neg db, if_neg ca, if_neg ca, if_neg ca]
        refine ⟨q1, q2, fi_3 q3 n0 c2' F2.2.2.1 F2.2.2.2 n1, q4, fun i i0 i1' => ?_⟩
        have z1 := fj_1 rg.2.2.1 i0 i1' rg.2.2.2.2.2.1 rg.2.2.2.2.2.2 rg.2.2.2.2.1
        have le52 : sI μ 46 d ≤ sI μ 46 d + sI σ 224 c := fi_2 q2.1 rg.2.2.2.1 q2.2 (fj_5 rg.2.2.1 rg.2.2.2.1 rg.2.2.2.2.1 rg.2.2.2.2.2.1 rg.2.2.2.2.2.2)
        have z2 := fj_1 q2.1 i0 i1' q3 F2.2.2.2 le52
        rw [k1 _ z1.1 z1.2, k2 _ z2.1 z2.2]
        exact q5 i i0 i1'
      · obtain ⟨rfl, rfl⟩ := Prod.mk.inj (List.mem_singleton.mp h)
        rw [x9 c x4, y5 d hb0, y7 d hb0, y6 d hb0, x6 c x4, x7 c x4, x8 c x4, if_pos rfl, if_pos rfl, if_pos rfl, if_pos rfl, if_pos rfl, if_pos rfl, if_pos rfl]
        refine ⟨by rw [s1]; exact ll_ad s2 ser, ⟨F2.2.2.1, F2.2.2.2⟩, Int32.le_refl _, lk, cp⟩
  · rw [e194, f2 18 (by omega), x10, y8, s1, ll_ad s2 ser]
  · rw [f2 18 (by omega), y8]; lia
  · have y1' := y1.1.2.2.2.2.2.2
    rw [List.length_append, lM] at y1'
    simp only [List.length_cons, List.length_nil] at y1'
    rw [lM] at b5
    rw [f2 18 (by omega), f2 29 (by omega), f2 48 (by omega), y8, mf_F (k := 29) frm rfl]
    have e : (sF μ 18 + 1).toInt = (sF μ 18).toInt + 1 := by
      rw [tI_lt] at ser
      rw [tI_le] at s2
      have z : (2147483647 : Int32).toInt = 2147483647 := rfl
      have z1 : (1 : Int32).toInt = 1 := rfl
      rw [tI_add] <;> omega
    rw [e]
    omega
