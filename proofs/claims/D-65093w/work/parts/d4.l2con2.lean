/-! LAYER 2: functions of the house: concat, whole -/
theorem liveK {L : LQ} (E : EVok (lE L)) {w : WD} {a b : Int32} {es es' : Int32 → List Int32} {σ μ : mS} (H : LC L w 0 σ μ) (R : RT w σ μ es es') (h : (a, b) ∈ wT w) (k : Int64) : ∃ r c d, xx3_live (lNn L) σ a 3 k = some (r, σ) ∧ mm_get (lNn L) μ b 2 k = some (gt μ c d) ∧ LC L w 0 σ (gt μ c d) ∧ ((r = -1 ∧ c = 0 ∧ d = 0) ∨ ((0 ≤ r ∧ r < 20000) ∧ (r ∈ es a ∧ sJ σ 213 r = k) ∧ VV w (sI σ 214 r) (sJ σ 215 r) c d)) := by
  have RR := LC_RT H
  obtain ⟨⟨ps, hs, ff, fh, M⟩, _⟩ := id R
  obtain ⟨r, c, d, r1, r2, r3, r4⟩ := live_L E H h (VV_n (v := k)) (by decide)
  obtain ⟨r', q1, q2⟩ := live_x (EV_N E) (RS_dst RR.2.1) M.1 (tX_mem h) (VV_ok RR.2.1 (VV_n (w := w) (v := k)) (by decide) (by decide)).1
  have q1' : xx3_live (lNn L) σ a 3 k = some (r', σ) := q1
  rw [r1] at q1'
  cases q1'
  refine ⟨r, c, d, r1, r2, r3, ?_⟩
  rcases r4 with r4 | ⟨t0, t1, t2, t3, t4⟩
  · exact .inl r4
  · rcases q2 with ⟨s1, s2, s3⟩ | ⟨s1, s2⟩
    · refine .inr ⟨⟨t0, t1⟩, ⟨s1, ?_⟩, t4⟩
      have := s2.2
      rw [if_neg (by rw [s2.1]; decide)] at this
      exact this
    · rw [s1] at t0
      exact absurd t0 (by decide)
/-- what is at hand -/
def KS (l2 acc : List Int32) (σ μ : mS) : Prop := (l2.length ≤ 4000 ∧ acc.length ≤ 4000) ∧ hasL (σ.2.2.1 520) 0 acc ∧ hasL (σ.2.2.1 521) 0 l2 ∧ bufL μ acc ∧ sF μ 226 = Int32.ofNat l2.length ∧ hasL (μ.2.2.1 225) 0 l2
theorem cc_dead {N m : Nat} {b : Int32} {k to : Int64} {z : mS} (h : ¬ sF z 227 = 0) : (if lg_cmp k 9223372036854775807 = 0 then mm_concat_249 N z else lt (k + 1) (fun x3 => mm_concat_64 N (m + 1) b to x3 z)) = some z := by
  have e249 : mm_concat_249 N z = some z := by rw [mm_concat_249, sF_fold, if_neg h]; rfl
  rw [e249, lt, mm_concat_64, sF_fold, if_neg h, e249, ite_self, ite_self]
theorem con_lp {L : LQ} (E : EVok (lE L)) {w : WD} {a b : Int32} (h : (a, b) ∈ wT w) {es es' : Int32 → List Int32} {to : Int64} {l2 : List Int32} : ∀ (c m m' : Nat) (pl : List Int32) (k : Int64) (acc : List Int32) (σ μ : mS), pl.length + c = 20001 → c < m → c + 1 < m' → LC L w 0 σ μ → RT w σ μ es es' → KS l2 acc σ μ → pl.Nodup → (∀ e, e ∈ pl → e ∈ es a ∧ sJ σ 213 e < k) → LO L w (xx8_concat_b60 (lNn L) m a (Int32.ofNat l2.length) to (Int32.ofNat acc.length) k σ) (mm_concat_64 (lNn L) m' b to k μ) := by
  intro c
  induction c with
  | zero =>
    intro m m' pl k acc σ μ hp hm hm' H R K nd hpl
    obtain ⟨⟨ps, hs, ff, fh, M⟩, _⟩ := id R
    have := nd_len (M := 20000) pl nd (fun x hx => by
      have q := M.1.1 a (tX_mem h) x (hpl x hx).1
      have q1 := q.1
      have q2 := q.2.1
      rw [tI_lt] at q2
      exact ⟨q1, q2⟩)
    omega
  | succ c ih =>
    intro m m' pl k acc σ μ hp hm hm' H R K nd hpl
    obtain ⟨m, rfl⟩ : ∃ j, m = j + 1 := ⟨m - 1, by omega⟩
    obtain ⟨m', rfl⟩ : ∃ j, m' = j + 1 := ⟨m' - 1, by omega⟩
    obtain ⟨m', rfl⟩ : ∃ j, m' = j + 1 := ⟨m' - 1, by omega⟩
    obtain ⟨⟨k2, ka⟩, k5, k6, k7, k8, k9⟩ := K
    have fin : ∀ (A : List Int32) (σ' μ' : mS), LC L w 0 σ' μ' → A.length ≤ 4000 → hasL (σ'.2.2.1 520) 0 A → bufL μ' A → LO L w (xx8_concat_b268 (lNn L) (Int32.ofNat A.length) σ') (mm_concat_249 (lNn L) μ') := fun A σ' μ' H' hA h5 h7 => by
      have := bytes_L E H' (g := 0) (by decide) (v := 520) (p := 0) (l := A) vB_520 (by decide) (fun _ => ⟨by omega, h5⟩) h7 (by omega)
      rw [xx8_concat_b268, mm_concat_249, sF_fold, if_pos (L_227 H')]
      exact LO_end this (fun z => rfl) (fun z => rfl)
    rw [xx8_concat_b60, mm_concat_64]
    by_cases c0 : 0 < lg_cmp k to
    · rw [if_pos c0, if_pos c0]
      exact fin acc σ μ H ka k5 k7
    rw [if_neg c0, if_neg c0, sF_fold, if_pos (L_227 H)]
    obtain ⟨r, c', d', r1, r2, r3, r4⟩ := liveK E H R h k
    have R1 : RT w σ (gt μ c' d') es es' := RT_fr R wle_rfl rfl mf_rfl (gt_u (μ := μ) (c := c') (d := d')) (fun k _ => rfl) (fun k hk => uM_f (by omega))
    have iw : ∀ y : Int32, mm_isWritten (lNn L) (gt μ c' d') y = some (if y = 3 then 1 else if y = 2 then 1 else 0, gt μ c' d') := fun y => by
      rw [mm_isWritten]
      split
      · rfl
      · split <;> rfl
    rw [r1, r2, bd_so, bd_so, gt_42', iw, bd_so]
    dsimp only
    -- nothing to be written
    have fault : LO L w (bx (xx6_fault (lNn L) σ (3000 + 117)) (fun z8 => some (Except.error (z8.1, z8.2)))) (gd (zB 1) (lt (md_pi (gt μ c' d') 227 1) (fun σ10 => bd (mm_fault_2 (lNn L) σ10 42) (fun z11 => some z11)))) := by
      rw [gd_z1, lt, bd_id]
      exact .inr (fault_L E r3.1 (t := 117) (tm := 42) (by decide) (by decide) (by decide +kernel) (by decide +kernel))
    rcases r4 with ⟨q1, q2, q3⟩ | ⟨⟨q0, q1⟩, ⟨q2, q3⟩, q4⟩
    · rw [if_pos q1, xx8_concat_b107, if_neg (by decide), if_neg (by decide), q2, show (if (0 : Int32) = 3 then (1 : Int32) else if (0 : Int32) = 2 then 1 else 0) = 0 from by decide, if_pos rfl]
      rw [q2] at fault
      exact fault
    have rr : ¬ r = -1 := fun q => by rw [q] at q0; exact absurd q0 (by decide)
    have tv := VV_t q4
    rw [if_neg rr, gd_in (by decide) q0 q1, sI_fold]
    by_cases t34 : sI σ 214 r = 3 ∨ sI σ 214 r = 4
    · have c23 : c' = 2 ∨ c' = 3 := by
        rcases t34 with q | q
        · exact .inl (tv.2.1.mp q)
        · exact .inr (tv.2.2.1.mp q)
      have e132 : xx8_concat_b107 (lNn L) (xx8_concat_b60 (lNn L) m) a (Int32.ofNat l2.length) to (Int32.ofNat acc.length) k r (sI σ 214 r) σ = xx8_concat_b132 (lNn L) (xx8_concat_b60 (lNn L) m) a (Int32.ofNat l2.length) to (Int32.ofNat acc.length) k r (sI σ 214 r) σ := by
        rw [xx8_concat_b107]
        rcases t34 with q | q
        · rw [if_pos q]
        · rw [if_neg (by rw [q]; decide), if_pos q]
      have ei : ¬ (if c' = 3 then (1 : Int32) else if c' = 2 then 1 else 0) = 0 := by
        rcases c23 with q | q <;> rw [q] <;> decide
      obtain ⟨l, ht, hl⟩ := VV_ex (LC_TS r3.1) q4
      have svx : sI σ 214 r = 4 → x_sv σ (sJ σ 215 r).toInt32 := fun q => by
        rw [q] at q4
        exact (RS_gs (LC_TS r3.1).1 (VV_str q4 (.inl rfl))).1.1
      obtain ⟨σ1, t1, t2, t3⟩ := text_L (N := lNn L) (EV_N E) (v := 522) (p := 0) (σ := σ) vB_522 (by decide) svx t34 ht (by omega)
      rw [Nat.zero_add] at t1
      have t1' : xx6_text (lNn L) σ (sI σ 214 r) (sJ σ 215 r) 522 0 = some (Int32.ofNat l.length, σ1) := t1
      have g17 : bufL (gt μ c' d') acc := k7
      obtain ⟨τm, v1, v2, v3⟩ := cm_v E (r := mm_concat_64 (lNn L) (m' + 1)) (b := b) (k := k) (to := to) k2 ka hl r3 q4 ht gt_42 gt_43 c23 g17 k8 k9
      have v1' : (if 4000 < (gt μ c' d').1 17 then mm_concat_165 (lNn L) (mm_concat_64 (lNn L) (m' + 1)) b to k (gt μ c' d') else if (gt μ c' d').1 42 = 3 then gd (inB (Int64.toInt32 ((gt μ c' d').2.1 43)) 42000) (if (gt μ c' d').1 17 + (gt μ c' d').2.2.1 3 (Int64.toInt32 ((gt μ c' d').2.1 43)).toNatClampNeg ≤ 4000 then mm_concat_160 (lNn L) (mm_concat_64 (lNn L) (m' + 1)) b to k ((gt μ c' d').1 17) (gt μ c' d') else mm_concat_161 (lNn L) (mm_concat_64 (lNn L) (m' + 1)) b to k ((gt μ c' d').1 17) 4001 (gt μ c' d')) else mm_concat_160 (lNn L) (mm_concat_64 (lNn L) (m' + 1)) b to k ((gt μ c' d').1 17) (gt μ c' d')) = mm_concat_224 (lNn L) (mm_concat_64 (lNn L) (m' + 1)) b to k τm := v1
      rw [e132, if_neg ei, v1', xx8_concat_b132, gd_in (by decide) q0 q1, sJ_fold, t1', bd_so]
      dsimp only
      have H1 : LC L w 0 σ1 τm := LC_u (LC_522 r3 t3.1) mf_rfl (bK_u v2)
      have R2 : RT w σ1 τm es es' := RT_fr R1 wle_rfl rfl t3.1 v2 (fun k hk => by simp only [beq_eq_false_iff_ne]; omega) (fun k hk => bK_f (by omega))
      have m226 : sF τm 226 = Int32.ofNat l2.length := by rw [mf_F v2 rfl]; exact k8
      have m225 : hasL (τm.2.2.1 225) 0 l2 := by rw [v2.2.2.1 225 rfl]; exact k9
      have s520 : hasL (σ1.2.2.1 520) 0 acc := by rw [t3.1.2.2.1 520 rfl]; exact k5
      have s521 : hasL (σ1.2.2.1 521) 0 l2 := by rw [t3.1.2.2.1 521 rfl]; exact k6
      have bl : (btL k to l2).length ≤ 4000 := by
        rw [btL]
        split
        · exact Nat.zero_le _
        · exact k2
      have e179 : (if 0 ≤ lg_cmp k to then xx8_concat_b179 (lNn L) (xx8_concat_b60 (lNn L) m) a (Int32.ofNat l2.length) to (Int32.ofNat acc.length) k (Int32.ofNat l.length) (Int32.ofNat acc.length + Int32.ofNat l.length) 0 σ1 else xx8_concat_b179 (lNn L) (xx8_concat_b60 (lNn L) m) a (Int32.ofNat l2.length) to (Int32.ofNat acc.length) k (Int32.ofNat l.length) (Int32.ofNat acc.length + Int32.ofNat l.length) (Int32.ofNat l2.length) σ1) = xx8_concat_b179 (lNn L) (xx8_concat_b60 (lNn L) m) a (Int32.ofNat l2.length) to (Int32.ofNat acc.length) k (Int32.ofNat l.length) (Int32.ofNat (acc.length + l.length)) (Int32.ofNat (btL k to l2).length) σ1 := by
        rw [oN_add, btL]
        by_cases q : 0 ≤ lg_cmp k to
        · rw [if_pos q, if_pos q]; rfl
        · rw [if_neg q, if_neg q]
      rw [e179, xx8_concat_b179, lt, oN_add]
      have len : (acc ++ l ++ btL k to l2).length = acc.length + l.length + (btL k to l2).length := by rw [List.length_append, List.length_append]
      by_cases q : acc.length + l.length + (btL k to l2).length ≤ 4000
      · -- both go on
        have b3 : bufL τm (acc ++ l ++ btL k to l2) := v3.resolve_right (fun q' => by omega)
        have tl : mm_tooLong (lNn L) τm = some τm := by
          have e17 : sF τm 17 = Int32.ofNat (acc ++ l ++ btL k to l2).length := b3.1
          rw [mm_tooLong, sF_fold, if_pos (L_227 H1), sF_fold, e17, len, if_pos (by rw [show (4000 : Int32) = Int32.ofNat 4000 from rfl, oN_le (by omega) (by omega)]; exact q)]; rfl
        have on : ∀ σ2, m_fr (fun k => k == 520) σ1 σ2 → hasL (σ2.2.2.1 520) 0 (acc ++ l ++ btL k to l2) → LO L w (xx8_concat_b243 (lNn L) (xx8_concat_b60 (lNn L) m) a (Int32.ofNat l2.length) to k (Int32.ofNat (acc.length + l.length + (btL k to l2).length)) σ2) (mm_concat_224 (lNn L) (mm_concat_64 (lNn L) (m' + 1)) b to k τm) := fun σ2 f2 h5 => by
          have u2 : m_fr uX σ1 σ2 := mf_mono f2 (fun k hk => by
            simp only [beq_eq_false_iff_ne]
            rintro rfl
            exact absurd hk (by decide))
          have H2 : LC L w 0 σ2 τm := LC_u H1 u2 mf_rfl
          have R3 : RT w σ2 τm es es' := RT_fr R2 wle_rfl rfl f2 (mf_rfl (P := fun _ => false)) (fun k hk => by simp only [beq_eq_false_iff_ne]; omega) (fun k _ => rfl)
          rw [xx8_concat_b243, mm_concat_224, tl, bd_so]
          by_cases km : lg_cmp k 9223372036854775807 = 0
          · rw [if_pos km, if_pos km, ← len]
            exact fin _ σ2 τm H2 (by omega) h5 b3
          · rw [if_neg km, if_neg km, lt, lt, ← len]
            have j213 : sJ σ2 213 = sJ σ 213 := by
              funext i
              rw [mf_J f2 rfl, mf_J t3.1 rfl]
            have kk : k < k + 1 := by
              rw [L_lt, L_add]
              · have z1 : (1 : Int64).toInt = 1 := rfl
                omega
              · have z1 : (1 : Int64).toInt = 1 := rfl
                have := Int64.le_toInt k
                omega
              · have z1 : (1 : Int64).toInt = 1 := rfl
                have zm : (9223372036854775807 : Int64).toInt = 9223372036854775807 := rfl
                have := Int64.toInt_lt k
                have ne : k.toInt ≠ 9223372036854775807 := fun q => km (lgc_eq.mpr (by rw [L_eq, zm]; exact q))
                omega
            refine ih m (m' + 1) (r :: pl) (k + 1) _ σ2 τm (by rw [List.length_cons]; omega) (by omega) (by omega) H2 R3 ⟨⟨k2, by omega⟩, h5, by rw [f2.2.2.1 521 rfl]; exact s521, b3, m226, m225⟩ (List.nodup_cons.mpr ⟨fun q' => ?_, nd⟩) (fun e he => ?_)
            · have := (hpl r q').2
              rw [q3] at this
              rw [L_lt] at this; omega
            · rw [j213]
              rcases List.mem_cons.mp he with rfl | he
              · exact ⟨q2, by rw [q3]; exact kk⟩
              · have := hpl e he
                exact ⟨this.1, by rw [L_lt] at kk ⊢; have t := this.2; rw [L_lt] at t; omega⟩
        have ap := cp_app (i := 522) s520 t2 (by omega)
        have fr1 := cp_fr (σ := σ1) (i := 522) (j := 520) (sp := 0) (dp := Int32.ofNat acc.length) (n := Int32.ofNat l.length)
        rw [if_pos (by rw [show (4000 : Int32) = Int32.ofNat 4000 from rfl, oN_le (by omega) (by omega)]; exact q), cp_g vB_522 vB_520 (by omega) (by omega), gd_tt, lt]
        generalize x_cp σ1 522 0 520 (Int32.ofNat acc.length) (Int32.ofNat l.length) = σ2 at *
        by_cases kt : 0 ≤ lg_cmp k to
        · have eb : btL k to l2 = [] := by rw [btL, if_pos kt]
          rw [if_pos kt]
          refine on σ2 fr1 ?_
          rw [eb, List.append_nil]; exact ap
        · have eb : btL k to l2 = l2 := by rw [btL, if_neg kt]
          have ap2 := cp_app (i := 521) ap (by rw [fr1.2.2.1 521 rfl]; exact s521) (by rw [List.length_append]; omega)
          rw [List.length_append] at ap2
          rw [eb] at q
          rw [if_neg kt, oN_add, cp_g vB_521 vB_520 (by omega) (by omega), gd_tt, lt]
          refine on _ (mf_tr fr1 cp_fr) ?_
          rw [eb]; exact ap2
      · -- too long
        have e17 : 4000 < sF τm 17 := by
          rcases v3 with v3 | v3
          · have e : sF τm 17 = Int32.ofNat (acc ++ l ++ btL k to l2).length := v3.1
            rw [e, len, show (4000 : Int32) = Int32.ofNat 4000 from rfl, oN_lt (by omega) (by omega)]; omega
          · exact v3.2
        have e : mm_tooLong (lNn L) τm = mm_fault_2 (lNn L) (md_pi τm 227 1) 30 := by
          rw [mm_tooLong, sF_fold, if_pos (L_227 H1), sF_fold, if_neg (Int32.not_le.mpr e17), gd_z1, lt]
          exact bd_id
        rw [if_neg (fun h => q (by rw [show (4000 : Int32) = Int32.ofNat 4000 from rfl, oN_le (by omega) (by omega)] at h; exact h)), mm_concat_224, e]
        exact .inr (fault_L2 E H1.1 (t := 109) (tm := 30) (by decide) (by decide) (by decide +kernel) (by decide +kernel) (fun z hz => cc_dead (by rw [hz]; decide)))
    · have n3 : ¬ sI σ 214 r = 3 := fun q => t34 (.inl q)
      have n4 : ¬ sI σ 214 r = 4 := fun q => t34 (.inr q)
      rw [xx8_concat_b107, if_neg n3, if_neg n4, if_neg (show ¬ c' = 3 from fun q => n4 (tv.2.2.1.mpr q)), if_neg (show ¬ c' = 2 from fun q => n3 (tv.2.1.mpr q)), if_pos rfl]
      exact fault
theorem tables_29 {N : Nat} {z : mS} : xx8_tables N z 29 = xx8_concat N z := show bx (xx8_concat N z) (fun z7 => xx8_tables_b75 N z7) = xx8_concat N z from bx_ok
theorem oft_29 {N : Nat} {z : mS} : mm_ofTables N z 29 = bd (mm_isOf N z 1 4 29) (fun z14 => bd (mm_unless N z14.2 z14.1) (fun z15 => if sF z15 227 = 0 then bd (mm_valueOf N z15 1) (fun z16 => lt (Int64.toInt32 z16.1) (fun x17 => bd (mm_typeOf N z16.2 2) (fun z23 => if z23.1 = 0 then mm_ofTables_197 N 29 x17 z23.2 else bd (mm_isText N z23.2 2 29) (fun z24 => bd (mm_unless N z24.2 z24.1) (fun z25 => mm_ofTables_197 N 29 x17 z25))))) else some z15)) := rfl
/-- behind the second argument -/
theorem con_27 {L : LQ} (E : EVok (lE L)) {w : WD} {a b : Int32} (h : (a, b) ∈ wT w) (hl' : (29 : Int32) = Int32.ofNat (lB L)) {σ μ μ2 : mS} (H : LC L w 0 σ μ) (fm : m_fr uM μ μ2) (H2 : LC L w 0 σ μ2) {l2 : List Int32} (len : l2.length ≤ 4000) (h521 : hasL (σ.2.2.1 521) 0 l2) (h225 : hasL (μ2.2.2.1 225) 0 l2) (hc : mm_concat (lNn L) μ b = mm_concat_22 (lNn L) b (Int32.ofNat l2.length) μ2) : LO L w (xx8_concat_b27 (lNn L) a (Int32.ofNat l2.length) σ) (mm_ofTables_197 (lNn L) 29 b μ) := by
  have big : 200000 < lNn L := by
    have := EV_N E
    simp only [BIG] at this
    show 200000 < eN (lE L)
    omega
  have d231 : ∀ z, mm_ofTables_231 (lNn L) b (md_pi z 227 1) = some (md_pi z 227 1) := fun z => by rw [mm_ofTables_231, sF_fold, if_neg u227']; rfl
  have d214 : ∀ z, mm_ofTables_214 (lNn L) 29 b (md_pi z 227 1) = some (md_pi z 227 1) := fun z => by rw [mm_ofTables_214, sF_fold, if_neg u227', d231]
  rw [xx8_concat_b27, mm_ofTables_197, sF_fold, if_pos (L_227 H)]
  refine (opt_L E H (i := 3) (o := 1) (by decide) (by decide) hl' (fun z => ⟨md_pi z 227 1, ?_, u227⟩)).elim (fun ⟨v3, m1, m2, m3, o3⟩ => ?_) (fun o => .inr o)
  · dsimp only
    rw [unless_0, bd_so, d214]
  rw [m2, m3, bx_so, bd_so]
  dsimp only
  rw [unless_1 (L_227 H), bd_so, mm_ofTables_214, sF_fold, if_pos (L_227 H)]
  have H0 : LC L w 0 σ (md_pi μ2 226 (Int32.ofNat l2.length)) := LC_u H2 mf_rfl (mf_pi mf_rfl rfl)
  have fm2 : m_fr uM μ (md_pi μ2 226 (Int32.ofNat l2.length)) := mf_tr fm (mf_pi mf_rfl rfl)
  obtain ⟨n, τ, τm, es, es', o1, o2, n0, n1, H3, H4, R, il, fr, frm⟩ := lenF_L E H0 h
  have H5 : LC L w 0 τ μ := by
    have := (len_X E H h)
    obtain ⟨n', τ', τm', p1, _, _, _, _, p6, _, _⟩ := this
    have p1' : xx3_length (lNn L) σ a = some (n', τ') := p1
    rw [o1] at p1'
    cases p1'
    exact p6
  rw [o1, bd_so]
  dsimp only
  refine (opt_L E H5 (i := 4) (o := Int32.toInt64 n) (by decide) (by decide) hl' (fun z => ⟨md_pi z 227 1, ?_, u227⟩)).elim (fun ⟨v4, q1, q2, q3, o4⟩ => ?_) (fun o => .inr o)
  · dsimp only
    rw [unless_0, bd_so, d231]
  rw [q2, q3, bx_so, bd_so]
  dsimp only
  rw [unless_1 (L_227 H), bd_so, mm_ofTables_231, sF_fold, if_pos (L_227 H), show (fun z37 => mm_ofTables_293 (lNn L) z37) = fun z37 => some z37 from rfl, bd_id, hc, mm_concat_22, lt]
  have r3 := nOr (N := lNn L) (o := 1) H fm2 rfl rfl rfl rfl (i := 3) (by decide) (by decide)
  have ev : (if bT μ 3 = 2 then bV μ 3 else 1) = v3 := by
    rcases o3 with ⟨_, q2, q3⟩ | ⟨_, q2, q3⟩
    · rw [if_neg (by rw [q3]; decide), q2]
    · rw [if_pos q2, q3]
  rw [ev] at r3
  have t4 := tag_Mq (N := lNn L) H fm2 rfl rfl rfl rfl (i := 4) (by decide) (by decide)
  rw [r3, bd_so]
  dsimp only
  rw [t4.1, bd_so]
  dsimp only
  have hU' : ∀ k, k < 202 ∨ 208 < k → hU k = false := fun k hk => by
    simp only [hU, List.contains_cons, List.contains_nil, Bool.or_eq_false_iff, beq_eq_false_iff_ne]
    repeat' apply And.intro
    all_goals first | trivial | omega
  have i521 : hasL (τ.2.2.1 521) 0 l2 := by rw [fr.2.2.1 521 (hU' _ (by omega))]; exact h521
  have fin : ∀ (y : mS) (es es' : Int32 → List Int32), LC L w 0 τ y → RT w τ y es es' → sF y 226 = Int32.ofNat l2.length → hasL (y.2.2.1 225) 0 l2 → LO L w (xx8_concat_b60 (lNn L) (lNn L) a (Int32.ofNat l2.length) v4 0 v3 τ) (mm_concat_54 (lNn L) b v3 v4 y) := fun y es es' hy Ry h6 h7 => by
    rw [mm_concat_54, lt]
    exact con_lp E h 20001 (lNn L) (lNn L) [] v3 [] τ (md_pi y 17 0) (by simp) (by omega) (by omega) (LC_u hy mf_rfl (mf_pi mf_rfl rfl)) (RT_fr Ry wle_rfl rfl (mf_rfl (P := fun _ => false)) (mf_pi (mf_rfl (P := fun k => k == 17)) rfl) (fun k _ => rfl) (fun k hk => by simp only [beq_eq_false_iff_ne]; omega)) ⟨⟨len, by simp⟩, hasL_nil, i521, bufL_0, h6, h7⟩ List.nodup_nil (fun e he => absurd he (by simp))
  have e226 : sF (md_pi μ2 226 (Int32.ofNat l2.length)) 226 = Int32.ofNat l2.length := by simp only [sF_pi, sF_pl, sF_ai, sF_al, sG_pi, sG_pl, sG_ai, sG_al, sI_pi, sI_pl, sI_al, sI_ai1, sI_ai2, sJ_pi, sJ_pl, sJ_ai, sJ_al1, sJ_al2, Nat.reduceEqDiff, if_true, if_false, ne_eq, not_false_eq_true, ite_true, ite_false]
  rcases o4 with ⟨_, s2, s3⟩ | ⟨_, s2, s3⟩
  · rw [if_neg (by rw [s3]; decide), o2, bd_so]
    dsimp only
    rw [← s2]
    exact fin τm es es' H3 R (by rw [mf_F frm rfl]; exact e226) (by rw [frm.2.2.1 225 rfl]; exact h225)
  · rw [if_pos s2, t4.2, bd_so, ← s3]
    dsimp only
    obtain ⟨fs, fs', Rf⟩ := (LC_RT H4).2.2.1
    exact fin _ fs fs' H4 Rf e226 h225
theorem lib_concat {L : LQ} (E : EVok (lE L)) {w : WD} {σ μ : mS} (H : LC L w 0 σ μ) (hl : lB L = 29) : LO L w (xx8_tables (lNn L) σ 29) (mm_ofTables (lNn L) μ 29) := by
  have hl' : (29 : Int32) = Int32.ofNat (lB L) := by rw [hl]; rfl
  rw [tables_29, oft_29, xx8_concat]
  refine (tab_L E H (i := 1) (by decide) (by decide) hl' (fun z => ⟨md_pi z 227 1, ?_, u227⟩)).elim (fun ⟨a, b, hab, a1, a2, a3, a4, a5, a6⟩ => ?_) (fun o => .inr o)
  · simp only [unless_0, bd_so, bx_so, bd_bd, lt, gd_z1, gd_z0, sF_fold, sF_pi, if_true, i10, if_false, ite_true, ite_false]
  have tl := tag_L (N := lNn L) H (i := 2) (by decide)
  have tm := tag_M (N := lNn L) H (i := 2) (by decide) (by decide)
  have tt := VV_t (arg_V H (i := 2) (by decide))
  rw [a5, a6, bx_so, bd_so]
  dsimp only
  rw [unless_1 (L_227 H), bd_so, tl.1, bd_so]
  simp only [L_227 H, if_true]
  rw [(tag_M H (i := 1) (by decide) (by decide)).2, bd_so, lt, a4, h_ll]
  dsimp only
  rw [tm.1, bd_so]
  dsimp only
  have d197 : ∀ z, mm_ofTables_197 (lNn L) 29 b (md_pi z 227 1) = some (md_pi z 227 1) := fun z => by
    rw [mm_ofTables_197, sF_fold, if_neg u227', mm_ofTables_214, sF_fold, if_neg u227', mm_ofTables_231, sF_fold, if_neg u227']; rfl
  by_cases c : aT σ 2 = 0
  · rw [if_pos c, if_pos (tt.1.mp c)]
    exact con_27 E hab hl' H mf_rfl H (l2 := []) (by simp) hasL_nil hasL_nil (by rw [mm_concat, tm.1, bd_so, if_pos (tt.1.mp c)]; rfl)
  · rw [if_neg c, if_neg (fun q => c (tt.1.mpr q))]
    refine (isText_L E H (i := 2) (v := 521) (by decide) (by decide) hl' (fun z => ⟨md_pi z 227 1, ?_, u227⟩)).elim (fun ⟨c1, c2, c3, c4⟩ => ?_) (fun o => .inr o)
    · dsimp only
      rw [unless_0, bd_so, d197]
    obtain ⟨l2, υ, υm, len2, y1, y2, y3, y4, y5, y6, H3⟩ := text_arg E H (i := 2) (by decide) (by decide) c1 (v := 521) (u := 225) (by omega) (.inr rfl)
    have v5 : m_fr uX σ υ := mf_mono y5 (fun k hk => by
      simp only [beq_eq_false_iff_ne]
      rintro rfl
      exact absurd hk (by decide))
    rw [c3 _ _ y1, c4, bx_so, bd_so]
    dsimp only
    rw [unless_1 (L_227 H), bd_so]
    refine con_27 E hab hl' (LC_u H v5 mf_rfl) y6 H3 len2 y3 y4 ?_
    rw [mm_concat, tm.1, bd_so, if_neg (fun q => c (tt.1.mpr q)), y2, bd_so]
