/-! LAYER 2: begin, whole -/
theorem VV_fn {w : WD} {vx vm : Int64} (v : VV w 6 vx 5 vm) : ∃ a b, vx = Int32.toInt64 a ∧ vm = Int32.toInt64 b ∧ ((a, b) ∈ wF w ∨ (0 ≤ b ∧ b < 46 ∧ a = -1 - b)) := by
  rcases v with ⟨h, _⟩ | ⟨h, _⟩ | ⟨h, _⟩ | ⟨h, _⟩ | ⟨h, _⟩ | ⟨h, _⟩ | ⟨_, _, h⟩ | ⟨h, _⟩ | ⟨h, _⟩
  case _ => exact absurd h (by decide)
  case _ => exact absurd h (by decide)
  case _ => exact absurd h (by decide)
  case _ => exact absurd h (by decide)
  case _ => exact absurd h (by decide)
  case _ => exact absurd h (by decide)
  case _ => exact h
  case _ => exact absurd h (by decide)
  case _ => exact absurd h (by decide)
theorem fu_1 {F : Int32} (h : 0 < F) : 0 ≤ F - 1 ∧ F - 1 < F ∧ ∀ x, x < F - 1 → x < F := ⟨by lia, by lia, fun x hx => by lia⟩
/-- begin -/
theorem BG_all {e : EV} (E : EVok e) (EK : KOK e) (LB : LBst e) {M : Nat} (hM : M + 1 < eN e) : ∀ (m : Nat) (F n0 : Int32), (∀ F', 0 ≤ F' → F' < F → HG e M F' 200) → RAst e M F n0 200 → BGst e M F n0 m := by
  intro m
  induction m using Nat.strongRecOn with
  | _ m IH =>
  intro F n0 HGs RA w xf c d rest ct σ μ p n tx vx dx dm H A hp v t8 hF hn0 hm hx hd
  have n2 := nn_200 H
  have N1 := (CL_n H).1
  obtain ⟨dx, rfl⟩ : ∃ i, dx = i + 5 := ⟨dx - 5, by omega⟩
  obtain ⟨dm, rfl⟩ : ∃ i, dm = i + 4 := ⟨dm - 4, by omega⟩
  subst hp
  show G2 e 1000 (M + 1) (bxx6_begin (eN e) (rc_xx6_begin (eN e) (dx + 4)) σ tx vx ct.1 ct.2.1 ct.2.2.1) (mb_call (eN e) (rc_call (eN e) (dm + 3)) μ ct.2.2.2.1 n ct.2.2.2.2.1 ct.2.2.2.2.2)
  rcases look_2 E H A rfl v t8 with ⟨n', τ, τm, l1, l2, l3, C1, A1, h5, vf, fr1, fr2⟩ | OE1
  · have nn' : ¬ n' < 0 := Int32.not_lt.mpr A1.2.1
    have ex : bxx6_begin (eN e) (rc_xx6_begin (eN e) (dx + 4)) σ tx vx ct.1 ct.2.1 ct.2.2.1 = bx (xx6_takeFuel (eN e) τ) (fun z2 => bx (bxx6_enter (eN e) (rc_xx6_begin (eN e) (dx + 3)) z2 ct.1 ct.2.1 ct.2.2.1) (fun z3 => some (.ok z3))) := by
      rw [bxx6_begin, l1]; rfl
    have em : mb_call (eN e) (rc_call (eN e) (dm + 3)) μ ct.2.2.2.1 n ct.2.2.2.2.1 ct.2.2.2.2.2 = mb_enter (eN e) (rc_call (eN e) (dm + 2)) τm ct.2.2.2.1 n' ct.2.2.2.2.1 ct.2.2.2.2.2 := by
      rw [mb_call, l2]
      show (if n' < 0 then mm_call_23 (eN e) (rc_call (eN e) (dm + 3)) τm else bd (mb_enter (eN e) (rc_call (eN e) (dm + 2)) τm ct.2.2.2.1 n' ct.2.2.2.2.1 ct.2.2.2.2.2) (fun z2 => some z2)) = _
      rw [if_neg nn', bd_id]
    rw [ex, em]
    have eF : sF τ 396 = F := by rw [mf_F fr1 rfl]; exact hF
    have e154 : sF τm 154 = sF μ 154 := mf_F fr2 rfl
    have e358 : sF τ 358 = sF σ 358 := mf_F fr1 rfl
    rcases fuel_2 E C1 with ⟨f0, f1, f2, C2⟩ | ⟨f0, OE1⟩
    · rw [eF] at f0 f1 f2 C2
      obtain ⟨u1, u2, u3⟩ := fu_1 f0
      have G := HGs (F - 1) u1 u2
      have A2 : AR w (md_pi τ 396 (F - 1)) (md_pi τm 180 (F - 1)) ct.2.2.2.1 n' := AR_fr A1 wle_rfl (P := fun k => [396].contains k) (Q := fun k => [180].contains k) (mf_pi mf_rfl rfl) (mf_pi mf_rfl rfl) rfl rfl rfl rfl rfl rfl
      have BG' : ∀ m', m = m' + 1 → BGst e M (F - 1) 200 m' := fun m' h => IH m' (by omega) (F - 1) 200 (fun F' h0 h1 => HGs F' h0 (u3 F' h1)) (GFR E G hM 200).2
      have hF2 : sF (md_pi τ 396 (F - 1)) 396 = F - 1 := by simp only [sF_pi, sF_pl, sF_ai, sF_al, sG_pi, sG_pl, sG_ai, sG_al, sI_pi, sI_pl, sI_al, sI_ai1, sI_ai2, sJ_pi, sJ_pl, sJ_ai, sJ_al1, sJ_al2, Nat.reduceEqDiff, if_true, if_false, ne_eq, not_false_eq_true, ite_true, ite_false]
      have hm2 : 200 - (sF (md_pi τ 396 (F - 1)) 358).toInt ≤ (m : Nat) := by simp only [sF_pi, sF_pl, sF_ai, sF_al, sG_pi, sG_pl, sG_ai, sG_al, sI_pi, sI_pl, sI_al, sI_ai1, sI_ai2, sJ_pi, sJ_pl, sJ_ai, sJ_al1, sJ_al2, Nat.reduceEqDiff, if_true, if_false, ne_eq, not_false_eq_true, ite_true, ite_false]; rw [e358]; exact hm
      obtain ⟨a, b, ea, eb, hab⟩ := VV_fn vf
      have h5' : sI (md_pi τm 180 (F - 1)) 141 ct.2.2.2.1 = 5 := by simp only [sF_pi, sF_pl, sF_ai, sF_al, sG_pi, sG_pl, sG_ai, sG_al, sI_pi, sI_pl, sI_al, sI_ai1, sI_ai2, sJ_pi, sJ_pl, sJ_ai, sJ_al1, sJ_al2, Nat.reduceEqDiff, if_true, if_false, ne_eq, not_false_eq_true, ite_true, ite_false]; exact h5
      have jb : sJ (md_pi τm 180 (F - 1)) 142 ct.2.2.2.1 = Int32.toInt64 b := by simp only [sF_pi, sF_pl, sF_ai, sF_al, sG_pi, sG_pl, sG_ai, sG_al, sI_pi, sI_pl, sI_al, sI_ai1, sI_ai2, sJ_pi, sJ_pl, sJ_ai, sJ_al1, sJ_al2, Nat.reduceEqDiff, if_true, if_false, ne_eq, not_false_eq_true, ite_true, ite_false]; exact eb
      have ja : sG (md_pi τ 396 (F - 1)) 409 = Int32.toInt64 a := by simp only [sF_pi, sF_pl, sF_ai, sF_al, sG_pi, sG_pl, sG_ai, sG_al, sI_pi, sI_pl, sI_al, sI_ai1, sI_ai2, sJ_pi, sJ_pl, sJ_ai, sJ_al1, sJ_al2, Nat.reduceEqDiff, if_true, if_false, ne_eq, not_false_eq_true, ite_true, ite_false]; exact ea
      rw [f1]
      show G2 e 1000 (M + 1) (bx (bxx6_enter (eN e) (rc_xx6_begin (eN e) (dx + 3)) (md_pi τ 396 (F - 1)) ct.1 ct.2.1 ct.2.2.1) (fun z3 => some (.ok z3))) _
      rw [bx_ok, mb_enter, f2]
      generalize md_pi τm 180 (F - 1) = ν at *
      generalize md_pi τ 396 (F - 1) = ρ at *
      show G2 e 1000 (M + 1) _ (if (1 : Int32) = 0 then some ν else gd (inB ct.2.2.2.1 500000) (lt (Int64.toInt32 (sJ ν 142 ct.2.2.2.1)) (fun x2 : Int32 => (if ((64 : Int32) : Int32) ≤ (x2 : Int32) then gd (inB (x2) 4100) ((if 0 ≤ sI ν 45 x2 then bd (mm_mayOpen (eN e) ν) (fun z3 => (if (z3.1 : Int32) = 0 then some z3.2 else bd (mm_enterScript (eN e) z3.2 (x2) ct.2.2.2.1 n' ct.2.2.2.2.1 ct.2.2.2.2.2) (fun z4 => some z4))) else bd (mm_mayOpen (eN e) ν) (fun z5 => (if (z5.1 : Int32) = 0 then some z5.2 else bd (mm_gather (eN e) z5.2 (ct.2.2.2.1 + 1) n') (fun z6 => lt (md_pi z6 143 ct.2.2.2.1) (fun σ7 : mS => gd (inB (x2) 4100) (bd ((rc_call (eN e) (dm + 2)).2.2.2 σ7 ((-1 : Int32) - sI σ7 45 x2) ((3 : Int32)) ct.2.2.2.1 ct.2.2.2.2.1 ct.2.2.2.2.2) (fun z8 => some z8)))))))) else bd (mb_enterOwn (eN e) (rc_call (eN e) (dm + 1)) ν x2 ct.2.2.2.1 n' ct.2.2.2.2.1 ct.2.2.2.2.2) (fun z9 => some z9)))))
      rw [if_neg (by decide), gd_in (by decide) N1.1 (Int32.lt_of_le_of_lt N1.2.1 (by decide)), jb, h_ll]
      simp only [lt]
      rcases hab with hF' | ⟨b0, b1, rfl⟩
      · have rr := RF_rng C2.1.1.1.2.2.2.1 hF'
        rw [if_pos rr.2.2.1, gd_in (by decide) (Int32.le_trans (by decide) rr.2.2.1) (Int32.lt_trans rr.2.2.2 (by decide))]
        exact enterF_2 E EK hM G BG' C2 A2 l3 h5' hF' ja jb hF2 hm2 (dx := dx + 2) (dm := dm + 1) (by omega) (by omega)
      · have b64 : ¬ (64 : Int32) ≤ b := by
          clear HGs RA BG' IH
          exact fun z => absurd (Int32.lt_of_lt_of_le b1 (Int32.le_trans (by decide) z)) Int32.lt_irrefl
        have eb' : Int32.ofNat b.toNatClampNeg = b := oN_cl' b0
        have lb : b.toNatClampNeg < 46 := by
          rw [tI_lt] at b1
          have z : (46 : Int32).toInt = 46 := rfl
          rw [tI_cl]; omega
        rw [if_neg b64, bd_id]
        have r := enterO_2 E LB hM G BG' lb C2 A2 l3 h5' (by rw [eb']; exact ja) (by rw [eb']; exact jb) hF2 hm2 (dx := dx) (dm := dm) (by omega) (by omega)
        rw [eb'] at r
        exact r
    · have em2 : OE e w xf c d rest ct τ τm (fun z => z) (bx (xx6_takeFuel (eN e) τ) (fun z2 => bx (bxx6_enter (eN e) (rc_xx6_begin (eN e) (dx + 3)) z2 ct.1 ct.2.1 ct.2.2.1) (fun z3 => some (.ok z3)))) (mb_enter (eN e) (rc_call (eN e) (dm + 2)) τm ct.2.2.2.1 n' ct.2.2.2.2.1 ct.2.2.2.2.2) := OE_bd (OE_bx OE1) (fun z => by rw [if_pos rfl])
      exact OE_G2 E RA em2 eF (by rw [e154]; exact hn0) (by rw [e154]; exact n2.2)
  · have em2 : OE e w xf c d rest ct σ μ (fun z => z) (bxx6_begin (eN e) (rc_xx6_begin (eN e) (dx + 4)) σ tx vx ct.1 ct.2.1 ct.2.2.1) (mb_call (eN e) (rc_call (eN e) (dm + 3)) μ ct.2.2.2.1 n ct.2.2.2.2.1 ct.2.2.2.2.2) := OE_bd (OE_bx OE1) (fun z => by rw [if_pos (show (-1 : Int32) < 0 by decide)]; rfl)
    exact OE_G2 E RA em2 hF hn0 n2.2
