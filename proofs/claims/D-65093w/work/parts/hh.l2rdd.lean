/-! LAYER 2: the two readers: the loop over signs of two sides -/
def CEl (N : Nat) (n : Int32) (t : Int32 → Int32) (A : Nat → Int) (o l : Nat) : Prop := ∀ (dx dm f g : Nat) (w : WD) (p e : Int32) (c : Int) (σ μ : mS) (v : Int32), 20 * o + 30 - l ≤ dx → 14 * o + 8 ≤ dm → PS n t A w p e o c σ μ → c ≤ 400 → 0 ≤ v.toInt → SGN l v μ → tF μ 133 ≤ 12 * (40 - o) + l → n.toInt - p.toInt < (f : Int) → n.toInt - p.toInt < (g : Int) → RXx N n t A w o l c p σ μ ((rc_xx10_arguments N dx).2.2.2.2.2.1 σ (Int32.ofNat l)) (rc_expression N dm) (mm_expression_18 N (rc_expression N dm) (mm_expression_7 N (rc_expression N dm) f) g v μ) v
def fOP (k : Nat) : Bool := fOp k || fPs k
theorem op_O {σ σ' : mS} (f : m_fr fOp σ σ') : m_fr fOP σ σ' := fr_of f (fun k hk => by unfold fOP; rw [hk]; rfl)
theorem op_P {σ σ' : mS} (f : m_fr fPs σ σ') : m_fr fOP σ σ' := fr_of f (fun k hk => by unfold fOP; rw [hk, Bool.or_true])
theorem ls_OP : ∀ k, [85, 106, 138, 140, 129, 67, 97, 96, 100, 102, 103, 137, 139, 87].contains k = true → fOP k = false := fun k hk => by
  have := fin_mem (Q := fun k => !fOP k) (l := [85, 106, 138, 140, 129, 67, 97, 96, 100, 102, 103, 137, 139, 87]) rfl k hk
  simpa using this
theorem PSw_tr {n p e : Int32} {t : Int32 → Int32} {A : Nat → Int} {w : WD} {o : Nat} {c : Int} {σ μ : mS} {j i : Nat} {v : Int32} (h : PSw n t A w p e o c σ μ) (hj : fTr j = true) : PSw n t A w p e o c (md_ai σ j i v) μ := PSw_fr h (P := fTr) (mf_ai mf_rfl hj) (Q := fun _ => false) mf_rfl (fun k hk => Tr_P k (by omega)) (fun _ _ => rfl) h.2.2.2.2.2 h.2.2.2.1 h.2.2.2.2.1
theorem PSw_44 {n p e : Int32} {t : Int32 → Int32} {A : Nat → Int} {w : WD} {o : Nat} {c : Int} {σ μ : mS} {v : Int32} (h : PSw n t A w p e o c σ μ) : PSw n t A w p e o c (md_pi σ 644 v) μ := PSw_fr h (P := fun k => decide (k = 644)) (mf_pi mf_rfl rfl) (Q := fun _ => false) mf_rfl (fun k hk => by simp only [decide_eq_false_iff_not]; omega) (fun _ _ => rfl) h.2.2.2.2.2 h.2.2.2.1 h.2.2.2.2.1
theorem climb_lp {N : Nat} (hN : BIG ≤ N) {n : Int32} {t : Int32 → Int32} {A : Nat → Int} {o l dx dm : Nat} {w : WD} {p e v : Int32} {c : Int} {σ μ : mS} (hb : PS n t A w p e o c σ μ) (hc : c ≤ 400) (hl : l ≤ 10) (hdx : 20 * o + 30 - l ≤ dx + 1) (hdm : 14 * o + 8 ≤ dm) (v0 : 0 ≤ v.toInt) (sg : SGN l v μ) (h133 : tF μ 133 ≤ 12 * (40 - o) + l) (R : ∀ l', l < l' → l' ≤ 10 → CEl N n t A o l') (J : ∀ o', o = o' + 1 → CEx N n t A o') : ∀ (j : Nat) (σ1 μ1 : mS) (r1 p1 : Int32) (f1 h1 : Nat), m_fr fPX σ σ1 → m_fr fPM μ μ1 → GX N n t A w o (wei l) c p p1 σ μ r1 σ1 μ1 → n.toInt - p1.toInt < (j : Int) → n.toInt - p1.toInt < (f1 : Int) → tF μ1 133 - v.toInt < (h1 : Int) → RXx N n t A w o l c p σ μ (xx10_expression_2_b27 N (rc_xx10_arguments N dx) j (Int32.ofNat l) r1 (bdx (sF σ1 707)) σ1) (rc_expression N dm) (mm_expression_84 N (rc_expression N dm) (mm_expression_7 N (rc_expression N dm) f1) h1 v (bdm (sF μ1 60)) μ1) v := by
  have oc := hb.2.2.1.2.2
  intro j
  induction j with
  | zero =>
    intro σ1 μ1 r1 p1 f1 h1 _ _ gx hj _ _
    obtain ⟨w1, e1, _, ps1, _⟩ := gx
    have := PS_pn ps1
    omega
  | succ j ih =>
    intro σ1 μ1 r1 p1 f1 h1 fx1 fm1 gx hj hf hh
    have gx0 := gx
    obtain ⟨w1, e1, ww1, ps1, kq1, ⟨ra, rb, _⟩, kx1, pp1, em1⟩ := gx
    have pn1 := PS_pn ps1
    have tk := PS_tk ps1
    obtain ⟨bk1, ⟨bk2, bk3⟩, bk4, bk5, bk6, bk7, bk8⟩ := bd_k tk.1
    have b12 := bd_12 tk.1
    have e60 : bdm (sF μ1 60) = bdx (sF σ1 707) := by rw [tk.2, ← bk1]
    have k133 : sF μ1 133 = sF μ 133 := kq1.1.1.2.2.1
    have t133 : tF μ1 133 = tF μ 133 := by unfold tF; rw [k133]
    have h0 : 0 ≤ tF μ1 133 := ps1.2.2.2.2.2.1.2.2.2.2.2.2.2.2.1
    have hv : v ≤ sF μ1 133 := by rw [k133]; exact sg.1
    rw [e60]
    by_cases c1 : bdx (sF σ1 707) ≤ Int32.ofNat l
    · rw [xx10_expression_2_b27, if_pos c1]
      exact ⟨r1, σ1, rfl, fx1, .inr ⟨μ1, p1, f1, h1, by rw [e60], fm1, gx0, by rw [e60]; exact c1, hf, hh⟩⟩
    have ebq : bdx (sF σ1 707) = Int32.ofNat (bdx (sF σ1 707)).toNatClampNeg := (oN_cl' bk2).symm
    have b10 : (bdx (sF σ1 707)).toNatClampNeg ≤ 10 := by
      have := tI_le.mp bk3
      rw [show (10 : Int32).toInt = 10 from rfl] at this
      rw [tI_cl]; omega
    have lb : l < (bdx (sF σ1 707)).toNatClampNeg := by
      have := Int32.not_le.mp c1
      rw [ebq] at this
      exact (oN_lt (by omega) (by omega)).mp this
    generalize hbn : (bdx (sF σ1 707)).toNatClampNeg = b at ebq b10 lb
    have q := PS_584 ps1
    have b0 : ¬ bdx (sF σ1 707) ≤ 0 := fun z => by
      rw [ebq] at z
      have := (oN_le (b := 0) (by omega) (by decide)).mp z
      omega
    have kpos : ¬ kmp (sF σ1 707) < 0 := by
      rcases bk7 with z | z
      · exact absurd (by rw [z]; exact Int32.le_refl _) b0
      · exact fun y => Int32.lt_irrefl (Int32.lt_trans z y)
    have kne : sF σ1 707 ≠ 7 := fun z => by
      have := tk.1
      rw [z] at this
      exact absurd this (by unfold KR; decide)
    have kn0 : ¬ sF σ1 707 = 0 := fun z => b0 (by rw [z]; decide)
    -- the sign's node
    have h2 : PS n t A w1 p1 e1 o (c - 8 + 3) (md_ai (ndS σ1 12) 579 (sF σ1 584).toNatClampNeg (sF σ1 707)) μ1 := PS_ai (PS_nd ps1 12 (by omega)) rfl
    have nd2 : ND (md_ai (ndS σ1 12) 579 (sF σ1 584).toNatClampNeg (sF σ1 707)) (sF σ1 584) 12 (-1) (-1) (sF σ1 707) (-1) (LN t p1) p1 (-1) := by
      have d := ND_new (σ := σ1) (k := 12)
      have l1 : sF σ1 709 = LN t p1 := ps1.1.2.2.2.1.1
      have l2 : sF σ1 708 = p1 := ps1.1.2.2.1.1
      rw [nk12, l1, l2] at d
      exact ND_C d
    have kx2 : KX σ1 (md_ai (ndS σ1 12) 579 (sF σ1 584).toNatClampNeg (sF σ1 707)) (-1) := KX_ai (KX_nd q.1.1 q.1.2).1 q.1.1 (Int32.le_refl _) (by omega)
    have c2 : sF σ1 584 < sF (md_ai (ndS σ1 12) 579 (sF σ1 584).toNatClampNeg (sF σ1 707)) 584 := (KX_nd (σ := σ1) (k := 12) (r := -1) q.1.1 q.1.2).2.2
    have px2 : m_fr fPX σ1 (md_ai (ndS σ1 12) 579 (sF σ1 584).toNatClampNeg (sF σ1 707)) := mf_ai (px_N ndS_fr) rfl
    have k707 : sF (md_ai (ndS σ1 12) 579 (sF σ1 584).toNatClampNeg (sF σ1 707)) 707 = sF σ1 707 := rfl
    have e44 : sF (md_ai (ndS σ1 12) 579 (sF σ1 584).toNatClampNeg (sF σ1 707)) 644 = sF σ1 644 := rfl
    have hX : xx10_expression_2_b27 N (rc_xx10_arguments N dx) (j + 1) (Int32.ofNat l) r1 (bdx (sF σ1 707)) σ1 = (if sF σ1 707 = 26 then xx10_expression_2_b74 N (rc_xx10_arguments N dx) (xx10_expression_2_b27 N (rc_xx10_arguments N dx) j) (Int32.ofNat l) r1 (bdx (sF σ1 707)) (sF σ1 584) 1 (md_ai (ndS σ1 12) 579 (sF σ1 584).toNatClampNeg (sF σ1 707)) else xx10_expression_2_b74 N (rc_xx10_arguments N dx) (xx10_expression_2_b27 N (rc_xx10_arguments N dx) j) (Int32.ofNat l) r1 (bdx (sF σ1 707)) (sF σ1 584) 0 (md_ai (ndS σ1 12) 579 (sF σ1 584).toNatClampNeg (sF σ1 707))) := by
      rw [xx10_expression_2_b27, if_neg c1, node_e q.2.1, bd_so]
      dsimp only
      rw [gd_of q.2.1, lt_e]
      rfl
    rw [hX]
    clear hX
    generalize md_ai (ndS σ1 12) 579 (sF σ1 584).toNatClampNeg (sF σ1 707) = σ2 at *
    obtain ⟨μ2, ev, fv, pv⟩ := PS_Op h2 (value_o (N := N) (PS_RO h2 1 (by omega))) (by omega) (by omega)
    have v133 : sF μ2 133 = sF μ1 133 := mf_F fv rfl
    have vt133 : tF μ2 133 = tF μ1 133 := by unfold tF; rw [v133]
    obtain ⟨f, rfl⟩ : ∃ i, f1 = i + 1 := ⟨f1 - 1, by omega⟩
    obtain ⟨h, rfl⟩ : ∃ i, h1 = i + 1 := ⟨h1 - 1, by have := tI_le.mp hv; unfold tF at hh; omega⟩
    have g133 : inB (sF μ1 133) 2048 = true := tI_in h0 (by unfold tF at t133 h133; omega)
    have hs : ¬ sF μ1 133 ≤ v → gfs (sI μ1 130 (sF μ1 133 - 1)) (bdx (sF σ1 707)) = 0 := fun z => by
      have y : (sF μ1 133 - 1).toInt = tF μ1 133 - 1 := by
        have q := nam_1 (v := sF μ1 133) (Int32.not_lt.mpr (tI_le.mpr h0)) (by rw [tI_lt, show (100000 : Int32).toInt = 100000 from rfl]; unfold tF at t133 h133; omega)
        rw [show sF μ1 133 - 1 = sF μ1 133 + (-1) from by rw [Int32.sub_eq_add_neg]]
        exact q
      have z' := tI_lt.mp (Int32.not_le.mp z)
      have u := (kq1.1.2.2.2.2.1 (sF μ1 133 - 1) (by rw [tI_le, show (0 : Int32).toInt = 0 from rfl]; unfold tF at y; omega) (by rw [← k133, tI_lt]; unfold tF at y; omega)).1
      rw [u]
      rw [k133] at z ⊢
      exact sg.2 z _ (Int32.not_le.mp c1) bk3
    rw [e84_n ps1.2.1.2 b0 hv (by rw [tI_le]; exact v0) (by omega) hs]
    have l63 : sF μ1 63 = LN t p1 := ps1.1.2.2.2.1.2.2
    by_cases k26 : sF σ1 707 = 26
    · -- joined
      rw [if_pos k26]
      have b8 : bdx (sF σ1 707) = 8 := by rw [k26]; exact bd_26.1
      have s308 : sF μ1 60 = 308 := by rw [tk.2]; exact bk4.mp k26
      cases o with
      | zero =>
        obtain ⟨x44, m69⟩ := o400 ps1.2.2.1
        rw [bin_join0 ev fv ps1.2.1.2 s308 m69, bd_so, e7_f rfl, xx10_expression_2_b74, if_neg n10, if_pos (show σ2.1 644 = 40 from e44.trans x44), fail_x h2.2.1.1, bd_so]
        exact ⟨r1, flX σ2, rfl, mf_tr fx1 (mf_tr px2 (px_F flX_fr)), .inl ⟨flM μ2, rfl, mf_tr fm1 (mf_tr (pm_O fv) (pm_F flM_fr)), FLw_up (flw pv) ww1 (by unfold kfo; omega)⟩⟩
      | succ o =>
        obtain ⟨x44, m69⟩ := o40 ps1.2.2.1
        obtain ⟨oa, ob, _⟩ := ps1.2.2.1
        obtain ⟨σ3, μ3, p3, e3, r1', r2, w3, pp, f3, g3, ⟨z1, z2, z3⟩, ss, s4⟩ := psh_2 hN (y := sF μ2 69 + 1) (s := sF μ1 60) (l := sF μ1 63) (j := 0) (PSw_lo (PSw_44 (v := sF σ2 644 + 1) (PS_w pv))) (by show ¬ sF σ2 707 = 0; rw [k707]; exact kn0) (by omega) (by omega)
        rw [v133] at z2 ss s4
        rw [vt133] at z1
        have ps4 : PS n t A w1 p3 e3 o (c - 8 + 3 + 1 - 20) (md_ai σ3 577 (sF σ1 584).toNatClampNeg r1) μ3 := w_PS (PSw_tr w3 rfl) ⟨by show sF σ3 644 = _; rw [mf_F f3 rfl, sF_pi, if_pos rfl, e44, oa]; exact opn_s oc, by rw [z3, mf_F fv rfl, ob]; exact opn_s oc, by omega⟩
        rw [bin_join ev fv ps1.2.1.2 g133 s308 m69, r2, bd_so, e7_n ps4.2.1.2]
        have kx3 : KX σ1 σ3 (-1) := KX_tr (KX_pi (v := sF σ2 644 + 1) (j := 644) kx2 (by decide) (by decide)) (KX_fr f3 T_KP)
        have c3 : sF σ1 584 < sF σ3 584 := by rw [mf_F f3 rfl]; exact c2
        have px3 : m_fr fPX σ1 σ3 := mf_tr (mf_pi px2 rfl) (px_T f3)
        have nd3 : ND (md_ai σ3 577 (sF σ1 584).toNatClampNeg r1) (sF σ1 584) 12 r1 (-1) (sF σ1 707) (-1) (LN t p1) p1 (-1) := ND_A (ND_fr (ND_pi nd2) f3 T_KP)
        have g1 : m_fr fOP μ1 μ3 := mf_tr (op_O fv) (op_P g3)
        have i8 : 1000000 ≤ N := Nat.le_trans (by decide) hN
        refine bin_cl hN (o2 := o) (l2 := 7) (d := 1) (k := sF σ1 707) (s := sF μ1 60) (ln := sF μ1 63) (jm := 0) hb hc hl fx1 fm1 ps1 kq1 kx1 pp1 em1 v0 hv (by omega) (.inr ⟨rfl, rfl⟩) ww1 ps4 (by omega) pp (KX_ai kx3 q.1.1 (Int32.le_refl _) (by omega)) c3 nd3 (mf_ai px3 rfl) kne g1 ls_OP (mf_tr (pm_O fv) (pm_P g3)) z1 z2 (by omega) ss (fun k k0 k1 => ?_) (fun y hy => ?_) (fun μ5 σ5 w5 p5 e5 c5 ps5 hc5 y1 y2 y3 y4 => ?_) (J o rfl 7 dx dm f N w1 p3 e3 _ _ μ3 v (by omega) (by omega) (by omega) ps4 (by omega) v0 ⟨by rw [z2, tI_le]; have := tI_le.mp hv; rw [← z2]; unfold tF at z1; omega, fun _ y y1 y2 => ?_⟩ (by omega) (by omega) (by omega)) (fun r σ5 hx => ?_) (fun σ7 μ7 p5 f7 h7 u1 u2 u3 u4 u5 u6 => ih σ7 μ7 (sF σ1 584) p5 f7 h7 u1 u2 u3 (by omega) u5 u6)
        · obtain ⟨x, y, z⟩ := s4 k k0 k1
          rw [x, y, z, mf_I fv rfl, mf_I fv rfl, mf_I fv rfl]
          exact ⟨rfl, rfl, rfl⟩
        · rw [tk.2]
          refine gf_q kpos ?_ (fun z => ?_)
          · rw [← bk1, b8]; exact Int32.le_trans hy (by decide)
          · rw [← bk1, b8] at z; rw [z] at hy; exact absurd hy (by decide)
        · have sp : ¬ sF μ1 60 < 0 := by rw [tk.2]; exact kpos
          obtain ⟨μ6, μ7, rd, val, em', w7, f6, f7, j1, j2, j3⟩ := rdt_2 (N := N) ps5 hc5 y1 h0 (by show tF μ1 133 < _; omega) y2 y3 (Int32.not_lt.mp sp) (by rw [s308]; decide) (by rw [s308]; decide)
          rw [if_pos s308] at em' j2
          refine ⟨μ7, rd, w7, f7, ⟨j1, j2, j3⟩, fun W T r t1 t2 t3 t4 t6 ea eb => ?_⟩
          refine ei_two (o + 1) (wei l) o (wei 7) (sF σ1 584) μ μ1 μ2 μ5 μ6 μ7 t1 (by rw [t4, k26]; decide) (by rw [t2]; exact ea) (st_of mf_rfl ev) (.inr ⟨rfl, by decide⟩) (EMR_sl (sl_P g3) (by rw [t3]; exact eb)) (st_of mf_rfl val) ?_
          rw [t4, t6, ← tk.2, ← l63]
          exact st_of (ν := md_pi (md_pi μ6 133 (sF μ1 133)) 69 (sF μ6 69 - 1)) (mf_pi (mf_pi mf_rfl rfl) rfl) em'
        · rw [z2, Int32.add_sub_cancel, ss.1, tk.2]
          by_cases z : y = 8
          · rw [gfs, if_neg kpos, ← bk1, b8, z, if_neg (by decide), if_pos rfl, if_pos (bk4.mp k26)]
          · refine gf_p kpos ?_
            rw [← bk1, b8]
            have y1' : (7 : Int32) < y := y1
            clear ih
            lia
        · exact bin_x q.2.1 (.inr rfl) rfl (fun _ => by rw [e44]; exact x44) r1' (by rw [b8]; exact hx)
    · rw [if_neg k26]
      obtain ⟨oa, ob, _⟩ := ps1.2.2.1
      have n308 : ¬ sF μ1 60 = 308 := by rw [tk.2]; exact fun z => k26 (bk4.mpr z)
      have i8 : 1000000 ≤ N := Nat.le_trans (by decide) hN
      have bnat : Int32.ofNat b = bdm (kmp (sF σ1 707)) := by rw [← ebq, bk1]
      have gsr : ∀ y, y ≤ Int32.ofNat b → gfs (sF μ1 60) y = 1 := fun y hy => by
        rw [tk.2]
        refine gf_q kpos (by rw [← bnat]; exact hy) (fun _ z => k26 (bk4.mpr z))
      have gsl : ∀ y, Int32.ofNat b < y → y ≤ 10 → gfs (sF μ1 60) y = 0 := fun y y1 _ => by
        rw [tk.2]
        exact gf_p kpos (by rw [← bnat]; exact y1)
      by_cases klog : sF σ1 707 = 50 ∨ sF σ1 707 = 65
      · -- and, or
        have s10 : sF μ1 60 = 10 ∨ sF μ1 60 = 25 := klog.elim (fun z => .inl (by rw [tk.2]; exact bk5.mp z)) (fun z => .inr (by rw [tk.2]; exact bk6.mp z))
        have b12' : b = 1 ∨ b = 2 := by
          rcases klog with z | z
          · have y := bd_26.2.1
            rw [← z, ebq] at y
            exact .inr ((oN_eq (b := 2) (by omega) (by decide)).mp y)
          · have y := bd_26.2.2
            rw [← z, ebq] at y
            exact .inl ((oN_eq (b := 1) (by omega) (by decide)).mp y)
        have ro := PS_RO pv 1 (by omega)
        have eme := emit_e (N := N) (a := if sF μ1 60 = 10 then 30 else 31) (b := 0) (c := 0) (d := 0) (l := 0) (RO_75 ro (by omega))
        obtain ⟨μ4, eh, f4, pv4⟩ := PS_Op pv (emit_b (N := N) (k := 0) (a := if sF μ1 60 = 10 then 30 else 31) (b := 0) (c := 0) (d := 0) (l := 0) (f := fun z => mm_higher N z.2 (-1)) ro (by omega) (fun q => hi_o q)) (by omega) (by omega)
        rw [eme, bd_so] at eh
        have j75 : 0 ≤ (sF μ2 75).toInt ∧ (sF μ2 75).toInt < 160000 := by
          have := ro.1
          unfold tF at this
          omega
        have v4 : sF μ4 133 = sF μ1 133 := (mf_F f4 rfl).trans v133
        have vt4 : tF μ4 133 = tF μ1 133 := by unfold tF; rw [v4]
        obtain ⟨σ3, μ3, p3, e3, r1', r2, w3, pp, f3, g3, ⟨z1, z2, z3⟩, ss, s4⟩ := psh_2 hN (y := sF μ4 69) (s := sF μ1 60) (l := sF μ1 63) (j := sF μ2 75) (PS_w pv4) (by rw [k707]; exact kn0) (by omega) (by omega)
        rw [v4] at z2 ss s4
        rw [vt4] at z1
        have ps4 : PS n t A w1 p3 e3 o (c - 8 + 3 + 1 + (1 + 0) - 20) (md_ai σ3 577 (sF σ1 584).toNatClampNeg r1) μ3 := w_PS (PSw_tr w3 rfl) ⟨by show sF σ3 644 = _; rw [mf_F f3 rfl, e44]; exact oa, by rw [z3, mf_F f4 rfl, mf_F fv rfl]; exact ob, oc⟩
        rw [bin_log ev fv ps1.2.1.2 g133 s10 eme eh f4, r2, bd_so, e7_n ps4.2.1.2]
        have kx3 : KX σ1 σ3 (-1) := KX_tr kx2 (KX_fr f3 T_KP)
        have c3 : sF σ1 584 < sF σ3 584 := by rw [mf_F f3 rfl]; exact c2
        have px3 : m_fr fPX σ1 σ3 := mf_tr px2 (px_T f3)
        have nd3 : ND (md_ai σ3 577 (sF σ1 584).toNatClampNeg r1) (sF σ1 584) 12 r1 (-1) (sF σ1 707) (-1) (LN t p1) p1 (-1) := ND_A (ND_fr nd2 f3 T_KP)
        have g1 : m_fr fOP μ1 μ3 := mf_tr (op_O (mf_tr fv f4)) (op_P g3)
        refine bin_cl hN (o2 := o) (l2 := b) (d := 0) (k := sF σ1 707) (s := sF μ1 60) (ln := sF μ1 63) (jm := sF μ2 75) hb hc hl fx1 fm1 ps1 kq1 kx1 pp1 em1 v0 hv (by omega) (.inl ⟨rfl, rfl⟩) ww1 ps4 (by omega) pp (KX_ai kx3 q.1.1 (Int32.le_refl _) (by omega)) c3 nd3 (mf_ai px3 rfl) kne g1 ls_OP (mf_tr (pm_O (mf_tr fv f4)) (pm_P g3)) z1 z2 (by omega) ss (fun k k0 k1 => ?_) gsr (fun μ5 σ5 w5 p5 e5 c5 ps5 hc5 y1 y2 y3 y4 => ?_) (R b lb b10 dx dm f N w1 p3 e3 _ _ μ3 v (by omega) hdm ps4 (by omega) v0 ⟨by rw [z2, tI_le]; have := tI_le.mp hv; rw [← z2]; unfold tF at z1; omega, fun _ y y1 y2 => ?_⟩ (by omega) (by omega) (by omega)) (fun r σ5 hx => ?_) (fun σ7 μ7 p5 f7 h7 u1 u2 u3 u4 u5 u6 => ih σ7 μ7 (sF σ1 584) p5 f7 h7 u1 u2 u3 (by omega) u5 u6)
        · obtain ⟨x, y, z⟩ := s4 k k0 k1
          rw [x, y, z, mf_I f4 rfl, mf_I f4 rfl, mf_I f4 rfl, mf_I fv rfl, mf_I fv rfl, mf_I fv rfl]
          exact ⟨rfl, rfl, rfl⟩
        · obtain ⟨μ6, μ7, rd, val, em', w7, f6, f7, j1, j2, j3⟩ := rdl_2 (N := N) ps5 hc5 y1 h0 (by show tF μ1 133 < _; omega) y2 y4 s10 j75.1 j75.2
          refine ⟨μ7, rd, w7, f7, ⟨j1, by rw [j2, Int32.sub_zero], j3⟩, fun W T r t1 t2 t3 t4 t6 ea eb => ?_⟩
          have ie : (if nC T (sF σ1 584) = 50 then (30 : Int32) else 31) = (if sF μ1 60 = 10 then 30 else 31) := by
            rw [t4]
            by_cases z : sF σ1 707 = 50
            · rw [if_pos z, if_pos (by rw [tk.2]; exact bk5.mp z)]
            · rw [if_neg z, if_neg (by rw [tk.2]; exact fun y => z (bk5.mpr y))]
          refine ei_logic o (wei l) (wei b) (sF σ1 584) (sF μ2 75) μ μ1 μ2 _ μ4 μ5 μ6 μ7 t1 (by rw [t4]; exact klog) (by rw [t2]; exact ea) (st_of mf_rfl ev) ⟨μ2, _, mf_rfl, by rw [ie]; exact eme, mf_rfl⟩ (st_of mf_rfl eh) (wei_2 lb b12') (EMR_sl (sl_P g3) (by rw [t3]; exact eb)) (st_of mf_rfl val) ?_
          exact st_of (ν := md_pi μ6 133 (sF μ1 133)) (mf_pi mf_rfl rfl) em'
        · rw [z2, Int32.add_sub_cancel, ss.1]
          exact gsl y y1 y2
        · exact bin_x q.2.1 (.inl rfl) rfl (fun z => absurd z (by decide)) (by rw [Int32.add_zero, pi_self]; exact r1') (by rw [Int32.sub_zero, ebq]; exact hx)
      · -- the others
        have n10' : ¬ sF μ1 60 = 10 := by rw [tk.2]; exact fun z => klog (.inl (bk5.mpr z))
        have n25 : ¬ sF μ1 60 = 25 := by rw [tk.2]; exact fun z => klog (.inr (bk6.mpr z))
        have wb : wei b + 4 ≤ wei l := wei_1 lb b10 (fun z => by
          rcases bk8 with y | y
          · exact k26 y
          · exact y (by rw [ebq, z]; rfl)) (fun z => klog (.inr (b12.1 (by rw [ebq, z]; rfl)))) (fun z => klog (.inl (b12.2 (by rw [ebq, z]; rfl))))
        obtain ⟨σ3, μ3, p3, e3, r1', r2, w3, pp, f3, g3, ⟨z1, z2, z3⟩, ss, s4⟩ := psh_2 hN (y := sF μ2 69) (s := sF μ1 60) (l := sF μ1 63) (j := 0) (PS_w pv) (by rw [k707]; exact kn0) (by omega) (by omega)
        rw [v133] at z2 ss s4
        rw [vt133] at z1
        have ps4 : PS n t A w1 p3 e3 o (c - 8 + 3 + 1 - 20) (md_ai σ3 577 (sF σ1 584).toNatClampNeg r1) μ3 := w_PS (PSw_tr w3 rfl) ⟨by show sF σ3 644 = _; rw [mf_F f3 rfl, e44]; exact oa, by rw [z3, mf_F fv rfl]; exact ob, oc⟩
        rw [bin_two ev fv ps1.2.1.2 g133 n10' n25 n308, r2, bd_so, e7_n ps4.2.1.2]
        have kx3 : KX σ1 σ3 (-1) := KX_tr kx2 (KX_fr f3 T_KP)
        have c3 : sF σ1 584 < sF σ3 584 := by rw [mf_F f3 rfl]; exact c2
        have px3 : m_fr fPX σ1 σ3 := mf_tr px2 (px_T f3)
        have nd3 : ND (md_ai σ3 577 (sF σ1 584).toNatClampNeg r1) (sF σ1 584) 12 r1 (-1) (sF σ1 707) (-1) (LN t p1) p1 (-1) := ND_A (ND_fr nd2 f3 T_KP)
        have g1 : m_fr fOP μ1 μ3 := mf_tr (op_O fv) (op_P g3)
        refine bin_cl hN (o2 := o) (l2 := b) (d := 0) (k := sF σ1 707) (s := sF μ1 60) (ln := sF μ1 63) (jm := 0) hb hc hl fx1 fm1 ps1 kq1 kx1 pp1 em1 v0 hv (by omega) (.inl ⟨rfl, rfl⟩) ww1 ps4 (by omega) pp (KX_ai kx3 q.1.1 (Int32.le_refl _) (by omega)) c3 nd3 (mf_ai px3 rfl) kne g1 ls_OP (mf_tr (pm_O fv) (pm_P g3)) z1 z2 (by omega) ss (fun k k0 k1 => ?_) gsr (fun μ5 σ5 w5 p5 e5 c5 ps5 hc5 y1 y2 y3 y4 => ?_) (R b lb b10 dx dm f N w1 p3 e3 _ _ μ3 v (by omega) hdm ps4 (by omega) v0 ⟨by rw [z2, tI_le]; have := tI_le.mp hv; rw [← z2]; unfold tF at z1; omega, fun _ y y1 y2 => ?_⟩ (by omega) (by omega) (by omega)) (fun r σ5 hx => ?_) (fun σ7 μ7 p5 f7 h7 u1 u2 u3 u4 u5 u6 => ih σ7 μ7 (sF σ1 584) p5 f7 h7 u1 u2 u3 (by omega) u5 u6)
        · obtain ⟨x, y, z⟩ := s4 k k0 k1
          rw [x, y, z, mf_I fv rfl, mf_I fv rfl, mf_I fv rfl]
          exact ⟨rfl, rfl, rfl⟩
        · have sp : ¬ sF μ1 60 < 0 := by rw [tk.2]; exact kpos
          obtain ⟨μ6, μ7, rd, val, em', w7, f6, f7, j1, j2, j3⟩ := rdt_2 (N := N) ps5 hc5 y1 h0 (by show tF μ1 133 < _; omega) y2 y3 (Int32.not_lt.mp sp) n10' n25
          rw [if_neg n308] at em' j2
          refine ⟨μ7, rd, w7, f7, ⟨j1, j2, j3⟩, fun W T r t1 t2 t3 t4 t6 ea eb => ?_⟩
          refine ei_two o (wei l) o (wei b) (sF σ1 584) μ μ1 μ2 μ5 μ6 μ7 t1 (by rw [t4]; exact ⟨fun z => klog (.inl z), fun z => klog (.inr z)⟩) (by rw [t2]; exact ea) (st_of mf_rfl ev) (.inl ⟨rfl, wb⟩) (EMR_sl (sl_P g3) (by rw [t3]; exact eb)) (st_of mf_rfl val) ?_
          rw [t4, t6, ← tk.2, ← l63]
          exact st_of (ν := md_pi (md_pi μ6 133 (sF μ1 133)) 69 (sF μ6 69 - 0)) (mf_pi (mf_pi mf_rfl rfl) rfl) em'
        · rw [z2, Int32.add_sub_cancel, ss.1]
          exact gsl y y1 y2
        · exact bin_x q.2.1 (.inl rfl) rfl (fun z => absurd z (by decide)) (by rw [Int32.add_zero, pi_self]; exact r1') (by rw [Int32.sub_zero, ebq]; exact hx)
/-- expressions of signs, given what has no sign before it -/
theorem climb {N : Nat} (hN : BIG ≤ N) {n : Int32} {t : Int32 → Int32} {A : Nat → Int} {o : Nat} (S : SCx N n t A o) (J : ∀ o', o = o' + 1 → CEx N n t A o') : CEx N n t A o := by
  have go : ∀ k l, 10 - l < k → l ≤ 10 → CEl N n t A o l := by
    intro k
    induction k with
    | zero => intro l h; omega
    | succ k ih =>
      intro l hk hl dx dm f g w p e c σ μ v hdx hdm h hc v0 sg h133 hf hg
      obtain ⟨dx, rfl⟩ : ∃ d, dx = d + 2 := ⟨dx - 2, by omega⟩
      obtain ⟨r, σ', x, fx, res⟩ := unary_2 hN S J (d := dx) h hc (by omega) hdm v0 sg.1 (by omega) hf hg
      show RXx N n t A w o l c p σ μ (bxx10_expression_2 N (rc_xx10_arguments N (dx + 1)) σ (Int32.ofNat l)) _ _ v
      have R : ∀ l', l < l' → l' ≤ 10 → CEl N n t A o l' := fun l' h1 h2 => ih l' (by omega) h2
      rcases res with ⟨μ', y, fm, fl⟩ | ⟨μ', p', f', h', y, fm, gx, hf', hh'⟩
      · rw [y]
        have f1 := (FLw_1 fl).1
        rw [bxx10_expression_2, x, bd_so]
        dsimp only
        rw [if_neg (show ¬ σ'.1 646 = 0 by rw [show σ'.1 646 = 1 from f1]; decide), xx10_expression_2_b26]
        obtain ⟨M, hM⟩ : ∃ M, N = M + 1 := ⟨N - 1, by have : 1 ≤ N := Nat.le_trans (by decide) hN; omega⟩
        have z : ∀ K, K = M + 1 → xx10_expression_2_b27 N (rc_xx10_arguments N (dx + 1)) K (Int32.ofNat l) r 0 σ' = some (r, σ') := fun K hK => by
          rw [hK, xx10_expression_2_b27, if_pos (show (0 : Int32) ≤ Int32.ofNat l from (oN_le (a := 0) (by decide) (by omega)).mpr (by omega))]
        exact ⟨r, σ', z N hM, fx, .inl ⟨μ', rfl, fm, fl⟩⟩
      · rw [y]
        have gx' := gx (wei l)
        obtain ⟨w1, e1, ww, ps, kq, _, _, pp, _⟩ := gx'
        rw [bxx10_expression_2, x, bd_so]
        dsimp only
        rw [if_pos (show σ'.1 646 = 0 from ps.2.1.1), bd_x, bd_so]
        have pn := PS_pn h
        have pn' := PS_pn ps
        have i8 : 1000000 ≤ N := Nat.le_trans (by decide) hN
        exact climb_lp hN h hc hl (by omega) hdm v0 sg h133 R J N σ' μ' r p' f' h' fx fm (gx (wei l)) (by omega) hf' hh'
  intro l dx dm f g w p e c σ μ v hl
  exact go 11 l (by omega) hl dx dm f g w p e c σ μ v
