/-! LAYER 2: what is given goes down to where it lands; errors go down to where they are caught -/
def GFst (e : EV) (M : Nat) (F n0 : Int32) (n : Nat) : Prop := ∀ w xf c d rest σ μ gn ct dd j k, (sF μ 154).toInt ≤ n → ME (eS e) (eK e) (eQ e) w xf c d rest σ μ → SV e w σ μ → FL (eS e) w σ (mff μ) (sI μ 141) (sJ μ 142) (btO d) (sI μ 162 d) (sI μ 161 d) (xf c) (sF μ 154) ct → GV w σ μ gn → gn ≤ 100 → sF σ 396 = F → sF μ 154 ≤ n0 → 202 * (sF μ 154).toInt + 4 * gn.toInt + 1000 ≤ 99 * (dd : Nat) → (sF μ 154).toInt < (k : Nat) → (sF μ 154).toInt ≤ (j : Nat) → j < eN e → G2 e j (M + 1) (xx6_give_b9 (eN e) k ct.1 ct.2.1 ct.2.2.1 σ) ((rc_finish (eN e) dd).2.1 μ ct.2.2.2.1 ct.2.2.2.2.1 ct.2.2.2.2.2)
def RAst (e : EV) (M : Nat) (F n0 : Int32) (n : Nat) : Prop := ∀ w xf c d rest σ μ ty v dd j, (sF μ 154).toInt ≤ n → ME (eS e) (eK e) (eQ e) w xf c d rest σ μ → SV e w σ μ → UN (eS e) w σ (mff μ) (sI μ 141) (sJ μ 142) (btO d) (sI μ 162 d) (sI μ 161 d) (xf c) (sF μ 154) → LK σ (mff μ) (sI μ 162 d) (xf c) (sF μ 154) → TH w σ ty v → sF σ 405 = lnH σ (xf c) → sF σ 396 = F → sF μ 154 - 1 ≤ n0 → 202 * (sF μ 154).toInt + 1008 ≤ 99 * (dd : Nat) → (sF μ 154).toInt ≤ (j : Nat) → j < eN e → ∃ rx μ', (∀ n2 : Nat, (sF μ 154).toInt < n2 → mm_raise_0 (eN e) (rc_finish (eN e) dd) n2 ty v μ = some μ') ∧ (∀ nn k n' : Nat, (sF μ 154).toInt < nn → j < k → M + 1 < n' → cE e n' (uH e k (xx6_unwind_b0 (eN e) nn σ)) = some rx) ∧ MF e (M + 1) μ' rx
theorem CE_of {e : EV} {j M cl : Nat} {σ : mS} {rx : Int32 × mS} (h : ∀ nn k n' : Nat, cl < nn → j < k → M < n' → cE e n' (uH e k (xx6_unwind_b0 (eN e) nn σ)) = some rx) (hc : cl < eN e) : CE e (j + 1) M σ rx := fun k n' hk hn => by
  obtain ⟨k, rfl⟩ : ∃ i, k = i + 1 := ⟨k - 1, by omega⟩
  rw [xx6_caught_b2, if_neg (by decide)]
  exact h (eN e) k n' hc (by omega) hn
theorem gX_R {k : Nat} (h : xR k = false ∨ k = 406 ∨ k = 523 ∨ k = 524) : gX k = false := by
  have h' : (k < 128 ∨ 191 < k ∨ k = 142) ∧ (k < 396 ∨ 411 < k ∨ k = 406) ∧ (k < 520 ∨ 522 < k) := by
    rcases h with h | h
    · have := xR_f h
      omega
    · omega
  simp only [gX, List.contains_cons, List.contains_nil, Bool.or_eq_false_iff, beq_eq_false_iff_ne]
  refine ⟨sK_f (by omega), ?_⟩
  (repeat' (first | exact trivial | omega | apply And.intro))
theorem gM_R {k : Nat} (h : mR k = false ∨ k = 181 ∨ k = 187 ∨ k = 219 ∨ k = 220) : gM k = false := by
  rcases h with h | h
  · simp only [mR, inR, Bool.or_eq_false_iff, Bool.and_eq_false_iff, decide_eq_false_iff_not] at h
    simp only [gM, sN, bK, List.contains_cons, List.contains_nil, Bool.or_eq_false_iff, beq_eq_false_iff_ne]
    (repeat' (first | exact trivial | omega | apply And.intro))
  · exact gM_f (by omega)
theorem cds_g {w : WD} {σ τ : mS} (fr : m_fr gX σ τ) : cds w σ τ := cds_fr fr (by decide) (by decide) (by decide)
/-- an error with a message -/
theorem flt_2 {e : EV} (E : EVok e) {M n : Nat} {F n0 : Int32} (RA : RAst e M F n0 n) {w : WD} {xf : Int32 → List Int32} {c d : Int32} {rest : PL2} {σ μ : mS} (H : ME (eS e) (eK e) (eQ e) w xf c d rest σ μ) (V : SV e w σ μ) (hU : UN (eS e) w σ (mff μ) (sI μ 141) (sJ μ 142) (btO d) (sI μ 162 d) (sI μ 161 d) (xf c) (sF μ 154)) (hL : LK σ (mff μ) (sI μ 162 d) (xf c) (sF μ 154)) {t tm : Nat} (ht : t < 141) (htm : tm < 76) (he : xtx t = mtx tm) (hlen : (mtx tm).length ≤ 100) (hF : sF σ 396 = F) (hn0 : sF μ 154 - 1 ≤ n0) (hn : (sF μ 154).toInt ≤ n) {dd j : Nat} (hd : 202 * (sF μ 154).toInt + 1008 ≤ 99 * dd) (hj : (sF μ 154).toInt ≤ j) (hj2 : j + 1 < eN e) : G2 e (j + 1) (M + 1) (bx (xx6_fault (eN e) σ (3000 + t)) (fun z8 => some (Except.error (z8.1, z8.2)))) ((rc_finish (eN e) (dd + 3)).1 μ tm) := by
  have hN := EV_N E
  have cl := ME_calls H
  have kb' := BC_kb H.2.2.2.2.2.1
  simp only at kb'
  have hp : ∀ k, kX k → gX k = false := fun k hk => gX_f (.inl hk)
  have hq : ∀ k, kM k → gM k = false := fun k hk => gM_k (.inl hk)
  rcases fault_2 hN H hL ht htm he hlen (dd + 1) with ⟨τ, τm, a1, a2, a3, a4, a5⟩ | ⟨τ, τm, w', v', a1, a2, a3, a4, a5, a6, a7, a8, a9⟩
  · -- no room
    have V' := SV_fr V wle_rfl a4 a5 (fun k hk => gX_R hk) (fun k hk => gM_R hk)
    obtain ⟨l1, l2⟩ := LKg (w := w) hL a4 a5
    obtain ⟨rx, μ', s1, s2, s3, s4⟩ := stop_2 E a3 V' (by rw [g162 a5, g154 a5]; exact l1) (a := 1101) (why := 3) (.inl ⟨rfl, rfl⟩)
    refine ⟨rx, μ', ?_, ?_, ?_, MT_F (s4 _)⟩
    · show (rc_finish (eN e) (dd + 1 + 2)).1 μ tm = _
      rw [a2]; exact s1
    · rw [a1]; exact XE_st s2 (.inl rfl)
    · rw [a1]; exact UE_st s2 (.inl rfl) s3
  · have V' := SV_fr V a6 a8 a9 (fun k hk => gX_R hk) (fun k hk => gM_R hk)
    obtain ⟨l1, l2⟩ := LKg (w := w) hL a8 a9
    have U' := UNr_fr hU ⟨kb'.1, by lia, kb'.2.2.1, kb'.2.2.2.1⟩ a6 (cds_g a8) a8 a9 hp hq
    have e161 : sI τm 161 d = sI μ 161 d := mf_I a9 (gM_f (by decide))
    have e162 : sI τm 162 d = sI μ 162 d := g162 a9
    have e154 : sF τm 154 = sF μ 154 := g154 a9
    obtain ⟨rx, μ', r1, r2, r3⟩ := RA w' xf c d rest τ τm 3 v' dd j (by rw [e154]; exact hn) a5 V' (by rw [e154, e161, e162]; exact U') (by rw [e154, e162]; exact l1) a3 (by rw [a4, l2]) (by rw [mf_F a8 (gX_f (.inr rfl))]; exact hF) (by rw [e154]; exact hn0) (by rw [e154]; exact hd) (by rw [e154]; exact hj) (by omega)
    rw [e154] at r1 r2
    have cn : (sF μ 154).toInt < (eN e : Nat) := by omega
    obtain ⟨cc, hcc⟩ : ∃ cc : Nat, (sF μ 154).toInt = cc := ⟨(sF μ 154).toInt.toNat, by
      have := kb'.1
      have c0 : sI μ 162 d ≤ sF μ 154 := by
        have := LK_len hL
        rw [tI_le]; omega
      have : 0 ≤ sF μ 154 := by lia
      rw [tI_le] at this
      have z : (0 : Int32).toInt = 0 := rfl
      omega⟩
    have ce : CE e (j + 1) (M + 1) τ rx := CE_of (cl := cc) (fun nn k n' h1 h2 h3 => r2 nn k n' (by omega) h2 h3) (by omega)
    refine ⟨rx, μ', ?_, ?_, ?_, r3⟩
    · show (rc_finish (eN e) (dd + 1 + 2)).1 μ tm = _
      rw [a2]
      exact r1 (eN e) cn
    · rw [a1]; exact XE_br ce (by omega)
    · rw [a1]; exact UE_br ce
theorem back_x {N : Nat} {σ : mS} {c c2 : Int32} (c0 : 0 ≤ c) (c1 : c < 121) (h : sI σ 327 c = c2) (p0 : 0 ≤ c2) (p1 : c2 < 121) : xx6_back N σ c = some (md_pi (md_ai (md_pi σ 339 c2) 323 c2.toNatClampNeg 1) 358 (sF σ 358 - 1)) := by
  simp (disch := lia) only [xx6_back, lt, gd_in, if_pos, if_neg, ↓reduceIte, gd_z0, gd_z1, gd_tt, sF_fold, sG_fold, sI_fold, sJ_fold, sF_pi, sF_pl, sF_ai, sF_al, sG_pi, sG_pl, sG_ai, sG_al, sI_pi, sI_pl, sI_al, sI_ai1, sI_ai2, sJ_pi, sJ_pl, sJ_ai, sJ_al1, sJ_al2, Nat.reduceEqDiff, if_true, if_false, ne_eq, not_false_eq_true, ite_true, ite_false, h, nar_tg]
theorem btO_d {d : Int32} : btO d = if d = 120 then 5 else 4 := rfl
theorem GF_step {e : EV} (E : EVok e) {M n : Nat} {F n0 : Int32} (G : HG e M F n0) (hM : M + 1 < eN e) (IG : ∀ m, m < n → GFst e M F n0 m) (IR : ∀ m, m < n → RAst e M F n0 m) : GFst e M F n0 n := by
  intro w xf c d rest σ μ gn ct dd j k hn H V hL hg g1 hF hn0 hd hk hj hj2
  have hN := EV_N E
  have cc := ME_c H
  have cl := ME_calls H
  have kb' := BC_kb H.2.2.2.2.2.1
  simp only at kb'
  have now : sF σ 339 = c ∧ sF μ 172 = d := ⟨H.2.2.2.2.2.2.1.1, H.2.2.2.2.2.2.1.2.1⟩
  have c0 : 0 ≤ sF μ 154 := by
    have := (FL_B hL ⟨kb'.1, by lia, kb'.2.2.1, kb'.2.2.2.1⟩).2
    lia
  have c0' : 0 ≤ (sF μ 154).toInt := by
    rw [tI_le] at c0; exact c0
  have gn0 : 0 ≤ gn.toInt := by
    have := hg.2.2.1
    rw [tI_le] at this; exact this
  obtain ⟨k, rfl⟩ : ∃ i, k = i + 1 := ⟨k - 1, by omega⟩
  obtain ⟨dd, rfl⟩ : ∃ i, dd = i + 1 := ⟨dd - 1, by omega⟩
  have eqf : ∀ a1 a2 a3, (rc_finish (eN e) (dd + 1)).2.1 μ a1 a2 a3 = mb_finish (eN e) (rc_finish (eN e) dd) μ a1 a2 a3 := fun _ _ _ => rfl
  rw [eqf]
  obtain ⟨gv1, gv2, gv3, gv4, gv5⟩ := hg
  have hgv : GV w σ μ gn := ⟨gv1, gv2, gv3, gv4, gv5⟩
  have g190 : sF μ 190 ≤ 100 := by rw [gv2]; exact g1
  cases hfl : xf c with
  | nil =>
    rw [hfl] at hL
    obtain ⟨L1, L2, L3, L4⟩ := hL
    have t0 := top_0 H.2.2.2.1 cc.1 hfl
    by_cases hm : d = 120
    · -- the run is over
      have rn : rest = [] := cc.2.2.2.2.2.1.mp hm
      have c00 : c = 0 := cc.2.2.2.2.2.2.mp hm
      subst hm; subst rn; subst c00
      rw [btO_d, if_pos rfl] at L4
      obtain ⟨rx, μ', o1, o2⟩ := over_2 E H V hfl L1 hgv g1 (rc_finish (eN e) dd) ct.2.2.2.1 ct.2.2.2.2.1
      refine ⟨rx, μ', by rw [L4]; exact o1, ?_, ?_, (o2 _).2.2⟩
      · have : xx6_give_b9 (eN e) (k + 1) ct.1 ct.2.1 ct.2.2.1 σ = some (.ok (md_pi σ 406 1)) := by
          simp (disch := lia) only [xx6_give_b9, lt, gd_in, if_pos, if_neg, ↓reduceIte, gd_z0, gd_z1, gd_tt, sF_fold, sG_fold, sI_fold, sJ_fold, now.1, t0]
        rw [this]; exact XE_ok (o2 _).1
      · have : xx6_give_b9 (eN e) (k + 1) ct.1 ct.2.1 ct.2.2.1 σ = some (.ok (md_pi σ 406 1)) := by
          simp (disch := lia) only [xx6_give_b9, lt, gd_in, if_pos, if_neg, ↓reduceIte, gd_z0, gd_z1, gd_tt, sF_fold, sG_fold, sI_fold, sJ_fold, now.1, t0]
        rw [this]; exact UE_ok (o2 _).2.1
    · -- the coroutine is over
      rw [btO_d, if_neg hm] at L4
      have cn0 : c ≠ 0 := fun z => hm (cc.2.2.2.2.2.2.mpr z)
      cases rest with
      | nil => exact absurd (cc.2.2.2.2.2.1.mpr rfl) hm
      | cons p rest =>
      obtain ⟨c2, d2⟩ := p
      obtain ⟨b1, b2, b3, b4, b5, b6, b7, b8, b9, b10⟩ := H.2.2.2.2.2.1
      have mem := BC_mem H.2.2.2.2.2.1 (c2, d2) (List.mem_cons_of_mem _ List.mem_cons_self)
      have W := H.1.1.1
      have r2 : (0 ≤ c2 ∧ c2 < 121) ∧ 0 ≤ d2 ∧ d2 < 121 := by
        rcases mem with y | y
        · obtain ⟨y1, y2⟩ := Prod.mk.inj y
          subst y1; subst y2
          exact ⟨⟨by decide, by decide⟩, by decide, by decide⟩
        · have := W.2.2.2.2.2 c2 d2 y.1
          have := (H.2.2.2.2.1.1 c2 d2 y.1).1
          exact ⟨⟨by lia, by lia⟩, by lia, by lia⟩
      have dlt : 0 ≤ d ∧ d < 120 := by have := W.2.2.2.2.2 c d b1; exact ⟨by lia, by lia⟩
      let σ1 := md_ai (md_ai σ 323 c.toNatClampNeg 3) 324 c.toNatClampNeg 0
      let σ2 := md_pi (md_ai (md_pi σ1 339 c2) 323 c2.toNatClampNeg 1) 358 (sF σ 358 - 1)
      have bk : xx6_back (eN e) σ1 c = some σ2 := by
        have := back_x (N := eN e) (σ := σ1) (c := c) (c2 := c2) cc.2.1 cc.2.2.1 (by simp (disch := lia) only [σ1, sF_pi, sF_pl, sF_ai, sF_al, sG_pi, sG_pl, sG_ai, sG_al, sI_pi, sI_pl, sI_al, sI_ai1, sI_ai2, sJ_pi, sJ_pl, sJ_ai, sJ_al1, sJ_al2, Nat.reduceEqDiff, if_true, if_false, ne_eq, not_false_eq_true, ite_true, ite_false]; exact b6.1) r2.1.1 r2.1.2
        rw [this]
        simp only [σ2, σ1, sF_pi, sF_pl, sF_ai, sF_al, sG_pi, sG_pl, sG_ai, sG_al, sI_pi, sI_pl, sI_al, sI_ai1, sI_ai2, sJ_pi, sJ_pl, sJ_ai, sJ_al1, sJ_al2, Nat.reduceEqDiff, if_true, if_false, ne_eq, not_false_eq_true, ite_true, ite_false]
      let μ2 := md_ai (md_pi (md_ai μ 156 d.toNatClampNeg 3) 172 d2) 156 d2.toNatClampNeg 1
      let μ3 := md_pi (md_pi μ2 154 (sF μ 154 - 1)) 155 (sF μ 155 - 1)
      have fx : m_fr stX σ σ2 := mf_pi (mf_ai (mf_pi (mf_ai (mf_ai mf_rfl rfl) rfl) rfl) rfl) rfl
      have fx' : m_fr (fun k => [323, 324, 339, 358].contains k) σ σ2 := mf_pi (mf_ai (mf_pi (mf_ai (mf_ai mf_rfl rfl) rfl) rfl) rfl) rfl
      have fm : m_fr stM μ μ3 := mf_pi (mf_pi (mf_ai (mf_pi (mf_ai mf_rfl rfl) rfl) rfl) rfl) rfl
      have fm' : m_fr (fun k => [154, 155, 156, 172].contains k) μ μ3 := mf_pi (mf_pi (mf_ai (mf_pi (mf_ai mf_rfl rfl) rfl) rfl) rfl) rfl
      obtain ⟨E1, E2, E3⟩ := ME_end (τ := σ2) (τm := μ3) H hfl L1 fx fm (fun x x0 => by
          simp (disch := lia) only [σ2, σ1, sF_pi, sF_pl, sF_ai, sF_al, sG_pi, sG_pl, sG_ai, sG_al, sI_pi, sI_pl, sI_al, sI_ai1, sI_ai2, sJ_pi, sJ_pl, sJ_ai, sJ_al1, sJ_al2, Nat.reduceEqDiff, if_true, if_false, ne_eq, not_false_eq_true, ite_true, ite_false, sI_ai r2.1.1 x0, sI_ai cc.2.1 x0, true_and, false_and]) (fun x x0 => by
          simp (disch := lia) only [σ2, σ1, sF_pi, sF_pl, sF_ai, sF_al, sG_pi, sG_pl, sG_ai, sG_al, sI_pi, sI_pl, sI_al, sI_ai1, sI_ai2, sJ_pi, sJ_pl, sJ_ai, sJ_al1, sJ_al2, Nat.reduceEqDiff, if_true, if_false, ne_eq, not_false_eq_true, ite_true, ite_false, sI_ai cc.2.1 x0, true_and, false_and]) (by simp only [σ2, sF_pi, sF_pl, sF_ai, sF_al, sG_pi, sG_pl, sG_ai, sG_al, sI_pi, sI_pl, sI_al, sI_ai1, sI_ai2, sJ_pi, sJ_pl, sJ_ai, sJ_al1, sJ_al2, Nat.reduceEqDiff, if_true, if_false, ne_eq, not_false_eq_true, ite_true, ite_false]) (by simp only [σ2, sF_pi, sF_pl, sF_ai, sF_al, sG_pi, sG_pl, sG_ai, sG_al, sI_pi, sI_pl, sI_al, sI_ai1, sI_ai2, sJ_pi, sJ_pl, sJ_ai, sJ_al1, sJ_al2, Nat.reduceEqDiff, if_true, if_false, ne_eq, not_false_eq_true, ite_true, ite_false]) (by simp only [σ2, σ1, sF_pi, sF_pl, sF_ai, sF_al, sG_pi, sG_pl, sG_ai, sG_al, sI_pi, sI_pl, sI_al, sI_ai1, sI_ai2, sJ_pi, sJ_pl, sJ_ai, sJ_al1, sJ_al2, Nat.reduceEqDiff, if_true, if_false, ne_eq, not_false_eq_true, ite_true, ite_false]) (by simp only [μ3, sF_pi, sF_pl, sF_ai, sF_al, sG_pi, sG_pl, sG_ai, sG_al, sI_pi, sI_pl, sI_al, sI_ai1, sI_ai2, sJ_pi, sJ_pl, sJ_ai, sJ_al1, sJ_al2, Nat.reduceEqDiff, if_true, if_false, ne_eq, not_false_eq_true, ite_true, ite_false]) (by simp only [μ3, sF_pi, sF_pl, sF_ai, sF_al, sG_pi, sG_pl, sG_ai, sG_al, sI_pi, sI_pl, sI_al, sI_ai1, sI_ai2, sJ_pi, sJ_pl, sJ_ai, sJ_al1, sJ_al2, Nat.reduceEqDiff, if_true, if_false, ne_eq, not_false_eq_true, ite_true, ite_false]) (fun x x0 => by
          simp (disch := lia) only [μ3, μ2, sF_pi, sF_pl, sF_ai, sF_al, sG_pi, sG_pl, sG_ai, sG_al, sI_pi, sI_pl, sI_al, sI_ai1, sI_ai2, sJ_pi, sJ_pl, sJ_ai, sJ_al1, sJ_al2, Nat.reduceEqDiff, if_true, if_false, ne_eq, not_false_eq_true, ite_true, ite_false, sI_ai r2.2.1 x0, sI_ai dlt.1 x0, true_and]) (by simp only [μ3, μ2, sF_pi, sF_pl, sF_ai, sF_al, sG_pi, sG_pl, sG_ai, sG_al, sI_pi, sI_pl, sI_al, sI_ai1, sI_ai2, sJ_pi, sJ_pl, sJ_ai, sJ_al1, sJ_al2, Nat.reduceEqDiff, if_true, if_false, ne_eq, not_false_eq_true, ite_true, ite_false])
      have e154 : sF μ3 154 = sF μ 154 - 1 := by simp only [μ3, sF_pi, sF_pl, sF_ai, sF_al, sG_pi, sG_pl, sG_ai, sG_al, sI_pi, sI_pl, sI_al, sI_ai1, sI_ai2, sJ_pi, sJ_pl, sJ_ai, sJ_al1, sJ_al2, Nat.reduceEqDiff, if_true, if_false, ne_eq, not_false_eq_true, ite_true, ite_false]
      have c1 : 1 ≤ sF μ 154 := by rw [L1]; exact b3.1
      have t1 : (sF μ3 154).toInt = (sF μ 154).toInt - 1 := by rw [e154]; exact tI_dec (k := 0) (by lia)
      have V3 : SV e w σ2 μ3 := SV_fr V wle_rfl fx' fm' (fun k hk => by
        rcases hk with hk | hk
        · have := xR_f hk
          simp only [List.contains_cons, List.contains_nil, Bool.or_eq_false_iff, beq_eq_false_iff_ne]
          (repeat' (first | exact trivial | omega | apply And.intro))
        · simp only [List.contains_cons, List.contains_nil, Bool.or_eq_false_iff, beq_eq_false_iff_ne]
          (repeat' (first | exact trivial | omega | apply And.intro))) (fun k hk => by
        rcases hk with hk | hk
        · simp only [mR, inR, Bool.or_eq_false_iff, Bool.and_eq_false_iff, decide_eq_false_iff_not] at hk
          simp only [List.contains_cons, List.contains_nil, Bool.or_eq_false_iff, beq_eq_false_iff_ne]
          (repeat' (first | exact trivial | omega | apply And.intro))
        · simp only [List.contains_cons, List.contains_nil, Bool.or_eq_false_iff, beq_eq_false_iff_ne]
          (repeat' (first | exact trivial | omega | apply And.intro)))
      have gv2' : GV w σ2 μ3 gn := GV_fr hgv wle_rfl fx' fm' rfl rfl rfl rfl rfl rfl
      have F2 : sF σ2 396 = F := by rw [mf_F fx' rfl]; exact hF
      have x28 : sI σ2 328 c = sI σ 328 c := mf_I fx' rfl
      have x29 : sI σ2 329 c = sI σ 329 c := mf_I fx' rfl
      have x30 : sI σ2 330 c = sI σ 330 c := mf_I fx' rfl
      have x31 : sI σ2 331 c = sI σ 331 c := mf_I fx' rfl
      obtain ⟨dd, rfl⟩ : ∃ i, dd = i + 1 := ⟨dd - 1, by omega⟩
      have cl3 : 0 ≤ sF μ3 154 ∧ sF μ3 154 < 256 := by rw [e154]; lia
      have m44 : sI μ3 144 (sF μ3 154) = sI μ 144 (sF μ3 154) := mf_I fm' rfl
      have m49 : sI μ3 149 (sF μ3 154) = mff μ (sF μ3 154) 5 := mf_I fm' rfl
      have m50 : sI μ3 150 (sF μ3 154) = mff μ (sF μ3 154) 6 := mf_I fm' rfl
      have m51 : sI μ3 151 (sF μ3 154) = mff μ (sF μ3 154) 7 := mf_I fm' rfl
      have mfin : mb_finish (eN e) (rc_finish (eN e) (dd + 1)) μ ct.2.2.2.1 ct.2.2.2.2.1 4 = (if sI μ3 144 (sF μ3 154) = 2 then bd (mm_before (eN e) μ3 1 1) (fun z4 => mm_toResumer_39 (eN e) (rc_finish (eN e) dd) z4) else mm_toResumer_39 (eN e) (rc_finish (eN e) dd) μ3) := by
        have tr : (rc_finish (eN e) (dd + 1)).2.2.2.2 μ2 = mb_toResumer (eN e) (rc_finish (eN e) dd) μ2 := rfl
        have i60 : sI μ 160 d = d2 := b6.2
        have q1 : mb_finish (eN e) (rc_finish (eN e) (dd + 1)) μ ct.2.2.2.1 ct.2.2.2.2.1 4 = (rc_finish (eN e) (dd + 1)).2.2.2.2 μ2 := by
          have nb3 : vp_nar .byte (3 : Int32) = 3 := nar_tg (by decide) (by decide)
          have nb1 : vp_nar .byte (1 : Int32) = 1 := nar_tg (by decide) (by decide)
          simp (disch := lia) only [mb_finish, lt, gd_in, if_pos, if_neg, ↓reduceIte, gd_z0, gd_z1, gd_tt, sF_fold, sG_fold, sI_fold, sJ_fold, sF_pi, sF_pl, sF_ai, sF_al, sG_pi, sG_pl, sG_ai, sG_al, sI_pi, sI_pl, sI_al, sI_ai1, sI_ai2, sJ_pi, sJ_pl, sJ_ai, sJ_al1, sJ_al2, Nat.reduceEqDiff, if_true, if_false, ne_eq, not_false_eq_true, ite_true, ite_false, now.2, i60, nb3, nb1, bd_id, μ2]
        have u4 : sF μ2 154 = sF μ 154 := by simp only [μ2, sF_pi, sF_pl, sF_ai, sF_al, sG_pi, sG_pl, sG_ai, sG_al, sI_pi, sI_pl, sI_al, sI_ai1, sI_ai2, sJ_pi, sJ_pl, sJ_ai, sJ_al1, sJ_al2, Nat.reduceEqDiff, if_true, if_false, ne_eq, not_false_eq_true, ite_true, ite_false]
        have u5 : sF μ2 155 = sF μ 155 := by simp only [μ2, sF_pi, sF_pl, sF_ai, sF_al, sG_pi, sG_pl, sG_ai, sG_al, sI_pi, sI_pl, sI_al, sI_ai1, sI_ai2, sJ_pi, sJ_pl, sJ_ai, sJ_al1, sJ_al2, Nat.reduceEqDiff, if_true, if_false, ne_eq, not_false_eq_true, ite_true, ite_false]
        rw [q1, tr]
        have f3 : md_pi (md_pi μ2 154 (sF μ2 154 - 1)) 155 (sF μ2 155 - 1) = μ3 := by rw [u4, u5]
        simp only [mb_toResumer, lt, sF_fold, sI_fold, sF_pi, Nat.reduceEqDiff, if_true, if_false]
        rw [f3]
        simp (disch := lia) only [gd_in, e154 ▸ (rfl : sF μ3 154 = sF μ3 154)]
        have q2 : sF μ3 154 = sF μ2 154 - 1 := by rw [e154, u4]
        simp (disch := lia) only [← q2, gd_in]
      have res39 : ∀ (z : mS), sF z 154 = sF μ3 154 → mm_toResumer_39 (eN e) (rc_finish (eN e) dd) z = (rc_finish (eN e) dd).2.1 z (sI z 149 (sF μ3 154)) (sI z 150 (sF μ3 154)) (sI z 151 (sF μ3 154)) := fun z hz => by
        simp (disch := lia) only [mm_toResumer_39, lt, gd_in, if_pos, if_neg, ↓reduceIte, gd_z0, gd_z1, gd_tt, sF_fold, sG_fold, sI_fold, sJ_fold, hz, bd_id]
      have xg : xx6_give_b9 (eN e) (k + 1) ct.1 ct.2.1 ct.2.2.1 σ = (if sI σ 328 c = 0 then bx (xx6_giveBefore (eN e) σ2 2) (fun z15 => xx6_give_b9 (eN e) k (sI σ 329 c) (sI σ 330 c) (sI σ 331 c) z15) else xx6_give_b9 (eN e) k (sI σ 329 c) (sI σ 330 c) (sI σ 331 c) σ2) := by
        have nb3 : vp_nar .byte (3 : Int32) = 3 := nar_tg (by decide) (by decide)
        have nb0 : vp_nar .byte (0 : Int32) = 0 := nar_tg (by decide) (by decide)
        have bk' : xx6_back (eN e) (md_ai (md_ai σ 323 c.toNatClampNeg 3) 324 c.toNatClampNeg 0) c = some σ2 := bk
        simp (disch := lia) only [xx6_give_b9, xx6_give_b139, xx6_give_b226, lt, gd_in, if_pos, if_neg, ↓reduceIte, gd_z0, gd_z1, gd_tt, sF_fold, sG_fold, sI_fold, sJ_fold, now.1, t0, nb3, nb0, bk', bd, x28, x29, x30, x31]
      rw [L4, mfin, xg]
      have c1' : 1 ≤ (sF μ 154).toInt := by rw [tI_le] at c1; exact c1
      have m0 : (sF μ3 154).toInt.toNat < n := by omega
      rcases E3 with ⟨w1, w2⟩ | ⟨w1, w2⟩
      · -- resume: true comes before
        rw [if_pos w1, m44, if_pos w2]
        by_cases g100 : gn = 100
        · -- there are too many
          obtain ⟨z, y1, y2, y3⟩ := before_m hN gv2' g1
          have z154 : sF z 154 = sF μ3 154 := mf_F y2 rfl
          have lt3 := ME_lt E1 (mf_rfl (σ := σ2)) (vM_l y2)
          have V4 := SV_lt V3 (mf_rfl (σ := σ2)) (vM_l y2) (by rw [mf_F fx' rfl]; exact V.2.2.2.2.1)
          have kb2 := BC_kb E1.2.2.2.2.2.1
          simp only at kb2
          have E2' := FL_lt E2 ⟨kb2.1, by lia, kb2.2.2.1, kb2.2.2.2.1⟩ (mf_rfl (σ := σ2)) (vM_l y2)
          have i162 : sI z 162 d2 = sI μ3 162 d2 := mf_I y2 rfl
          have i161 : sI z 161 d2 = sI μ3 161 d2 := mf_I y2 rfl
          rw [← i162, ← i161, ← z154] at E2'
          have g100' : gn.toInt = 100 := by rw [g100]; rfl
          obtain ⟨d5, hd5⟩ : ∃ i, dd = i + 4 := ⟨dd - 4, by omega⟩
          have fl := flt_2 E (IR _ m0) lt3 V4 (FL_UN E2') (FL_LK E2') (t := 2) (tm := 8) (by decide) (by decide) tx_2 (by decide +kernel) F2 (by rw [z154, e154]; lia) (by rw [z154]; omega) (dd := d5) (j := j - 1) (by rw [z154]; omega) (by rw [z154]; omega) (by omega)
          rw [y1]
          have hj1 : j - 1 + 1 = j := by omega
          rw [hj1] at fl
          have gb : xx6_giveBefore (eN e) σ2 2 = bx (xx6_fault (eN e) σ2 (3000 + 2)) (fun z8 => some (Except.error (z8.1, z8.2))) := by
            have : sF σ2 402 = 100 := by rw [gv2'.1]; exact g100
            simp (disch := lia) only [xx6_giveBefore, lt, gd_in, if_pos, if_neg, ↓reduceIte, gd_z0, gd_z1, gd_tt, sF_fold, sG_fold, sI_fold, sJ_fold]
          have eq1 : bx (xx6_giveBefore (eN e) σ2 2) (fun z15 => xx6_give_b9 (eN e) k (sI σ 329 c) (sI σ 330 c) (sI σ 331 c) z15) = bx (xx6_fault (eN e) σ2 (3000 + 2)) (fun z8 => some (Except.error (z8.1, z8.2))) := by
            rw [gb]
            cases xx6_fault (eN e) σ2 (3000 + 2) with
            | none => rfl
            | some u => cases u <;> rfl
          have eq2 : bd (some z) (fun z4 => mm_toResumer_39 (eN e) (rc_finish (eN e) dd) z4) = (rc_finish (eN e) (d5 + 3)).1 z 8 := by
            show mm_toResumer_39 (eN e) (rc_finish (eN e) dd) z = _
            rw [res39 z z154, hd5]
            show mb_finish (eN e) (rc_finish (eN e) (d5 + 3)) z _ _ _ = _
            have : ¬ sF z 190 ≤ 100 := by rw [y3, g100]; decide
            simp (disch := first | exact this | lia) only [mb_finish, lt, gd_in, if_pos, if_neg, ↓reduceIte, gd_z0, gd_z1, gd_tt, sF_fold, sG_fold, sI_fold, sJ_fold, bd_id]
          rw [eq1, eq2]
          exact fl
        · obtain ⟨σ4, μ4, y1, y2, y3, y4, y5⟩ := before_2 hN gv2' (by lia)
          have z154 : sF μ4 154 = sF μ3 154 := mf_F y5 rfl
          have lt3 := ME_lt E1 (vK_l y4) (vM_l y5)
          have V4 := SV_lt V3 (vK_l y4) (vM_l y5) (by rw [mf_F y4 rfl, mf_F fx' rfl]; exact V.2.2.2.2.1)
          have kb2 := BC_kb E1.2.2.2.2.2.1
          simp only at kb2
          have E2' := FL_lt E2 ⟨kb2.1, by lia, kb2.2.2.1, kb2.2.2.2.1⟩ (vK_l y4) (vM_l y5)
          have i162 : sI μ4 162 d2 = sI μ3 162 d2 := mf_I y5 rfl
          have i161 : sI μ4 161 d2 = sI μ3 161 d2 := mf_I y5 rfl
          rw [← i162, ← i161, ← z154] at E2'
          have gt1 : (gn + 1).toInt = gn.toInt + 1 := tI_ad (b := 1) gv3 (by lia) (by decide) (by decide)
          have ig := IG _ m0 w xf c2 d2 rest σ4 μ4 (gn + 1) _ dd j k (by rw [z154]; omega) lt3 V4 E2' y3 (by lia) (by rw [mf_F y4 rfl]; exact F2) (by rw [z154, e154]; lia) (by rw [z154, t1, gt1]; omega) (by rw [z154]; omega) (by rw [z154]; omega) hj2
          rw [y1, y2]
          show G2 e j (M + 1) (xx6_give_b9 (eN e) k (sI σ 329 c) (sI σ 330 c) (sI σ 331 c) σ4) (mm_toResumer_39 (eN e) (rc_finish (eN e) dd) μ4)
          rw [res39 μ4 z154, mf_I y5 rfl, mf_I y5 rfl, mf_I y5 rfl, m49, m50, m51, ← z154]
          exact ig
      · -- the function of wrap
        rw [if_neg (by rw [w1]; decide), m44, if_neg (by rw [w2]; decide)]
        have ig := IG _ m0 w xf c2 d2 rest σ2 μ3 gn _ dd j k (by omega) E1 V3 E2 gv2' g1 F2 (by rw [e154]; lia) (by rw [t1]; omega) (by omega) (by omega) hj2
        rw [res39 μ3 rfl, m49, m50, m51]
        exact ig
  | cons f fl =>
    rw [hfl] at hL
    have t0 := top_1 H.2.2.2.1 cc.1 hfl
    have hL2 := hL
    obtain ⟨L1, L2, L3, L4⟩ := hL
    rcases L3 with ⟨s1, s2, s3, s4, s5, s6, s7, s8, s9⟩ | L3
    · -- a guard
      obtain ⟨τ, p1, p2, p3, p4, p5⟩ := pop_2 (N := eN e) H V hfl L1
      let μ2 := md_pi (md_pi μ 154 (sF μ 154 - 1)) 155 (sF μ 155 - 1)
      have fm : m_fr (fun k => [154, 155].contains k) μ μ2 := mf_pi (mf_pi mf_rfl rfl) rfl
      have e154 : sF μ2 154 = sF μ 154 - 1 := by simp only [μ2, sF_pi, sF_pl, sF_ai, sF_al, sG_pi, sG_pl, sG_ai, sG_al, sI_pi, sI_pl, sI_al, sI_ai1, sI_ai2, sJ_pi, sJ_pl, sJ_ai, sJ_al1, sJ_al2, Nat.reduceEqDiff, if_true, if_false, ne_eq, not_false_eq_true, ite_true, ite_false]
      have t1 : (sF μ2 154).toInt = (sF μ 154).toInt - 1 := by rw [e154]; exact tI_dec (k := 0) (by lia)
      have FL2 : FL (eS e) w τ (mff μ2) (sI μ2 141) (sJ μ2 142) (btO d) (sI μ2 162 d) (sI μ2 161 d) fl (sF μ2 154) (ctO σ (mff μ) f (sF μ 154 - 1)) := by
        rw [e154, mf_I (k := 162) fm rfl, mf_I (k := 161) fm rfl]
        exact FL_cg L4 ⟨kb'.1, by lia, kb'.2.2.1, kb'.2.2.2.1⟩ wle_rfl (fun g _ => p5 g) (cds_fr p4 rfl rfl rfl) (fun k j _ _ hj => mf_I fm (by
          simp only [List.contains_cons, List.contains_nil, Bool.or_eq_false_iff, beq_eq_false_iff_ne]
          (repeat' (first | exact trivial | omega | apply And.intro)))) (fun _ _ _ => ⟨mf_I fm rfl, mf_J fm rfl⟩)
      have FL3 : FL (eS e) w τ (mff μ2) (sI μ2 141) (sJ μ2 142) (btO d) (sI μ2 162 d) (sI μ2 161 d) (fU xf c fl c) (sF μ2 154) (ctO σ (mff μ) f (sF μ 154 - 1)) := by rw [fU_s]; exact FL2
      have gv2' : GV w τ μ2 gn := GV_fr hgv wle_rfl p4 fm rfl rfl rfl rfl rfl rfl
      have F2 : sF τ 396 = F := by rw [mf_F p4 rfl]; exact hF
      have ff := (XF_at H.2.2.2.1 (fAll_mem cc.1 (by rw [hfl]; exact List.mem_cons_self))).1
      have c1 : 1 ≤ sF μ 154 := by lia
      have c1' : 1 ≤ (sF μ 154).toInt := by rw [tI_le] at c1; exact c1
      have m0 : (sF μ2 154).toInt.toNat < n := by omega
      have cl2 : 0 ≤ sF μ2 154 ∧ sF μ2 154 < 256 := by rw [e154]; lia
      have mfin : mb_finish (eN e) (rc_finish (eN e) dd) μ ct.2.2.2.1 ct.2.2.2.2.1 3 = bd (mm_before (eN e) μ2 1 1) (fun z => (rc_finish (eN e) dd).2.1 z (sI z 149 (sF z 154)) (sI z 150 (sF z 154)) (sI z 151 (sF z 154))) := by
        simp (disch := lia) only [mb_finish, lt, gd_in, if_pos, if_neg, ↓reduceIte, gd_z0, gd_z1, gd_tt, sF_fold, sG_fold, sI_fold, sJ_fold, sF_pi, sF_pl, sF_ai, sF_al, sG_pi, sG_pl, sG_ai, sG_al, sI_pi, sI_pl, sI_al, sI_ai1, sI_ai2, sJ_pi, sJ_pl, sJ_ai, sJ_al1, sJ_al2, Nat.reduceEqDiff, if_true, if_false, ne_eq, not_false_eq_true, ite_true, ite_false, bd_id]
        cases hb : mm_before (eN e) (md_pi (md_pi μ 154 (sF μ 154 - 1)) 155 (sF μ 155 - 1)) 1 1 with
        | none =>
          have : mm_before (eN e) μ2 1 1 = none := hb
          rfl
        | some z =>
          have hb' : mm_before (eN e) μ2 1 1 = some z := hb
          obtain ⟨z', y1, y2, y3⟩ := before_m hN gv2' g1
          have : z = z' := Option.some.inj (hb'.symm.trans y1)
          subst this
          have z154 : sF z 154 = sF μ2 154 := mf_F y2 rfl
          simp (disch := first | (rw [z154]; exact cl2.1) | (rw [z154]; exact cl2.2) | lia) only [bd, gd_in]
      have xg : xx6_give_b9 (eN e) (k + 1) ct.1 ct.2.1 ct.2.2.1 σ = bx (xx6_giveBefore (eN e) τ 2) (fun z7 => xx6_give_b9 (eN e) k (sI σ 350 f) (sI σ 351 f) (sI σ 352 f) z7) := by
        simp (disch := lia) only [xx6_give_b9, xx6_give_b226, lt, gd_in, if_pos, if_neg, ↓reduceIte, gd_z0, gd_z1, gd_tt, sF_fold, sG_fold, sI_fold, sJ_fold, now.1, t0, p1, bd]
      rw [s7, mfin, xg]
      by_cases g100 : gn = 100
      · obtain ⟨z, y1, y2, y3⟩ := before_m hN gv2' g1
        have z154 : sF z 154 = sF μ2 154 := mf_F y2 rfl
        have lt3 := ME_lt p2 (mf_rfl (σ := τ)) (vM_l y2)
        have V4 := SV_lt p3 (mf_rfl (σ := τ)) (vM_l y2) p3.2.2.2.2.1
        have kb2 := BC_kb p2.2.2.2.2.2.1
        simp only at kb2
        have E2' := FL_lt FL3 ⟨kb2.1, by lia, kb2.2.2.1, kb2.2.2.2.1⟩ (mf_rfl (σ := τ)) (vM_l y2)
        have i162 : sI z 162 d = sI μ2 162 d := mf_I y2 rfl
        have i161 : sI z 161 d = sI μ2 161 d := mf_I y2 rfl
        rw [← i162, ← i161, ← z154] at E2'
        have g100' : gn.toInt = 100 := by rw [g100]; rfl
        obtain ⟨d5, hd5⟩ : ∃ i, dd = i + 4 := ⟨dd - 4, by omega⟩
        have fl := flt_2 E (IR _ m0) lt3 V4 (FL_UN E2') (FL_LK E2') (t := 2) (tm := 8) (by decide) (by decide) tx_2 (by decide +kernel) F2 (by rw [z154, e154]; lia) (by rw [z154]; omega) (dd := d5) (j := j - 1) (by rw [z154]; omega) (by rw [z154]; omega) (by omega)
        rw [y1]
        have hj1 : j - 1 + 1 = j := by omega
        rw [hj1] at fl
        have gb : xx6_giveBefore (eN e) τ 2 = bx (xx6_fault (eN e) τ (3000 + 2)) (fun z8 => some (Except.error (z8.1, z8.2))) := by
          have : sF τ 402 = 100 := by rw [gv2'.1]; exact g100
          simp (disch := lia) only [xx6_giveBefore, lt, gd_in, if_pos, if_neg, ↓reduceIte, gd_z0, gd_z1, gd_tt, sF_fold, sG_fold, sI_fold, sJ_fold]
        have eq1 : bx (xx6_giveBefore (eN e) τ 2) (fun z7 => xx6_give_b9 (eN e) k (sI σ 350 f) (sI σ 351 f) (sI σ 352 f) z7) = bx (xx6_fault (eN e) τ (3000 + 2)) (fun z8 => some (Except.error (z8.1, z8.2))) := by
          rw [gb]
          cases xx6_fault (eN e) τ (3000 + 2) with
          | none => rfl
          | some u => cases u <;> rfl
        have eq2 : bd (some z) (fun z => (rc_finish (eN e) dd).2.1 z (sI z 149 (sF z 154)) (sI z 150 (sF z 154)) (sI z 151 (sF z 154))) = (rc_finish (eN e) (d5 + 3)).1 z 8 := by
          show (rc_finish (eN e) dd).2.1 z _ _ _ = _
          rw [hd5]
          show mb_finish (eN e) (rc_finish (eN e) (d5 + 3)) z _ _ _ = _
          have : ¬ sF z 190 ≤ 100 := by rw [y3, g100]; decide
          simp (disch := first | exact this | lia) only [mb_finish, lt, gd_in, if_pos, if_neg, ↓reduceIte, gd_z0, gd_z1, gd_tt, sF_fold, sG_fold, sI_fold, sJ_fold, bd_id]
        rw [eq1, eq2]
        exact fl
      · obtain ⟨σ4, μ4, y1, y2, y3, y4, y5⟩ := before_2 hN gv2' (by lia)
        have z154 : sF μ4 154 = sF μ2 154 := mf_F y5 rfl
        have lt3 := ME_lt p2 (vK_l y4) (vM_l y5)
        have V4 := SV_lt p3 (vK_l y4) (vM_l y5) (by rw [mf_F y4 rfl]; exact p3.2.2.2.2.1)
        have kb2 := BC_kb p2.2.2.2.2.2.1
        simp only at kb2
        have E2' := FL_lt FL3 ⟨kb2.1, by lia, kb2.2.2.1, kb2.2.2.2.1⟩ (vK_l y4) (vM_l y5)
        have i162 : sI μ4 162 d = sI μ2 162 d := mf_I y5 rfl
        have i161 : sI μ4 161 d = sI μ2 161 d := mf_I y5 rfl
        rw [← i162, ← i161, ← z154] at E2'
        have gt1 : (gn + 1).toInt = gn.toInt + 1 := tI_ad (b := 1) gv3 (by lia) (by decide) (by decide)
        have ig := IG _ m0 w (fU xf c fl) c d rest σ4 μ4 (gn + 1) _ dd j k (by rw [z154]; omega) lt3 V4 E2' y3 (by lia) (by rw [mf_F y4 rfl]; exact F2) (by rw [z154, e154]; lia) (by rw [z154, t1, gt1]; omega) (by rw [z154]; omega) (by rw [z154]; omega) hj2
        have m49 : sI μ4 149 (sF μ4 154) = mff μ (sF μ 154 - 1) 5 := by rw [mf_I y5 rfl, mf_I fm rfl, z154, e154]; rfl
        have m50 : sI μ4 150 (sF μ4 154) = mff μ (sF μ 154 - 1) 6 := by rw [mf_I y5 rfl, mf_I fm rfl, z154, e154]; rfl
        have m51 : sI μ4 151 (sF μ4 154) = mff μ (sF μ 154 - 1) 7 := by rw [mf_I y5 rfl, mf_I fm rfl, z154, e154]; rfl
        rw [y1, y2]
        show G2 e j (M + 1) (xx6_give_b9 (eN e) k (sI σ 350 f) (sI σ 351 f) (sI σ 352 f) σ4) ((rc_finish (eN e) dd).2.1 μ4 (sI μ4 149 (sF μ4 154)) (sI μ4 150 (sF μ4 154)) (sI μ4 151 (sF μ4 154)))
        rw [m49, m50, m51]
        exact ig
    · -- a function of a script
      have hs : sI σ 355 f = 0 := by
        obtain ⟨ρ, FCx, _⟩ := L3
        exact FCx.2.1
      have ff := (XF_at H.2.2.2.1 (fAll_mem cc.1 (by rw [hfl]; exact List.mem_cons_self))).1
      obtain ⟨τ, τm, a1, a2, a3, rx, x1, x2⟩ := land_2 E G H V hfl hL2 hs hgv g1 hF hn0 (rc_finish (eN e) dd)
      have xg : xx6_give_b9 (eN e) (k + 1) ct.1 ct.2.1 ct.2.2.1 σ = some (.ok τ) := by
        simp (disch := lia) only [xx6_give_b9, lt, gd_in, if_pos, if_neg, ↓reduceIte, gd_z0, gd_z1, gd_tt, sF_fold, sG_fold, sI_fold, sJ_fold, now.1, t0, a1, bd]
      rw [xg]
      exact ⟨rx, τm, a2, XE_ok (XL_mono x1 (by omega)), UE_ok (XB_of x1 a3 (by omega)), MF_mono x2 (by omega)⟩
