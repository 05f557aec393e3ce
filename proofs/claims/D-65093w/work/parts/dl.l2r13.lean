/-! LAYER 2: step rules: SELF -/
/-- an act, whatever lies on the pile -/
theorem act_0 {e : EV} {w : WD} {xf : Int32 → List Int32} {c d : Int32} {rest : PL2} {f : Int32} {fl : List Int32} {q n : Int32} {σ μ : mS} (H : MR0 e w xf c d rest f fl σ μ) (a5 : sF μ 154 = n) (a3 : mff μ (n - 1) 2 = q) {k : Int32} (ha : acm e q k) : mm_act (eN e) μ = actF (eN e) k (n - 1) q (mff μ (n - 1) 3) (sI (eμ e) 71 q) (sI (eμ e) 72 q) (actP μ (n - 1) q) := by
  have b := (MR0_f H).2.2.2.1
  rw [a5] at b
  have b' := at_1 b.1 b.2
  have r := act_x (N := eN e) (n := n) (k := n - 1) a5 rfl b'.1 b'.2 a3 ha.1.1 (Int32.lt_trans ha.1.2 (by decide))
  rw [SV_cm (k := 71) H.2.1 (by omega), SV_cm (k := 72) H.2.1 (by omega), show sI μ 147 (n - 1) = mff μ (n - 1) 3 from rfl] at r
  have e70 : (actP μ (n - 1) q).2.2.1 70 q.toNatClampNeg = k := (mf_I actP_fr (k := 70) rfl).trans ((SV_cm (k := 70) H.2.1 (by omega) q).trans ha.2)
  have iq : inB q 160000 = true := by
    refine tI_in ?_ ?_
    · have := ha.1.1; rw [tI_le] at this; exact this
    · have := ha.1.2
      rw [tI_lt] at this
      have z : (159900 : Int32).toInt = 159900 := rfl
      omega
  rw [r, act79_x, iq, gd_tt, e70]
theorem LE_0 {e : EV} {w : WD} {xf : Int32 → List Int32} {c d : Int32} {rest : PL2} {f : Int32} {fl : List Int32} {p q n : Int32} {σ μ : mS} (H : MR0 e w xf c d rest f fl σ μ) (a5 : sF μ 154 = n) {op : Int32} (ho : opx e p op) (L : lin e p q) (wd : Int32) : LE (xP σ f p wd) (mff (actP μ (n - 1) q)) f (n - 1) := by
  have f0 := (MR0_f H).1.1
  have b := (MR0_f H).2.2.2.1
  rw [a5] at b
  have b' := at_1 b.1 b.2
  have e345 : sI (xP σ f p wd) 345 f = p := by rw [xP_345 f0 f0, if_pos rfl]
  have e8 : mff (actP μ (n - 1) q) (n - 1) 8 = sI (eμ e) 74 q := by
    show sI (actP μ (n - 1) q) 152 (n - 1) = _
    rw [actP_152 b'.1 b'.1, SV_cm H.2.1 (by omega), SV_cm H.2.1 (by omega), if_pos ⟨rfl, L.2.1, L.2.2⟩]
  refine ⟨by rw [e345]; exact ho.1.1, by rw [e345]; exact Int32.lt_trans ho.1.2 (by decide), ?_, by rw [e8]; exact Int32.le_of_lt L.2.1⟩
  rw [e345, e8, ← L.1]
  exact (mf_I xP_fr rfl).trans (SV_cx H.2.1 (by omega) p)
/-- the value of a register goes to another one, which then stands for it -/
theorem move_S {e : EV} {w : WD} {xf : Int32 → List Int32} {c d : Int32} {rest : PL2} {f : Int32} {fl : List Int32} {ρ0 : List Int32} {x : Int32} {g p q F n : Int32} {σ μ : mS} (S : ST e w xf c d rest f fl (ρ0 ++ [x]) (-1) g p q F n σ μ) (z : zk e g (ρ0 ++ [x])) (x0 : 0 ≤ x) {s : Int32} (ok : okr (ρ0 ++ [x]) s 1 (sI (eσ e) 261 g) ∨ (okr ρ0 s 1 (sI (eσ e) 261 g) ∧ ∀ y, y ∈ ρ0 → dc y < s ∨ s + 1 ≤ dc y)) (ok2 : okr (ρ0 ++ [x]) s 1 (sI (eσ e) 261 g)) {N : Nat} : xx6_set N σ s (xt σ f x) (xv σ f x) = some (xS σ (sI σ 347 f + s) (xt σ f x) (xv σ f x)) ∧ ST e w xf c d rest f fl (ρ0 ++ [s]) (-1) g p q F n (xS σ (sI σ 347 f + s) (xt σ f x) (xv σ f x)) μ := by
  have T := S.1.1.2
  rw [S.1.2.2.2.2.2] at T
  have rv := RG_one.mp (RG_app.mp (TP_1 T).1).2
  have v := RV_V rv x0
  have t8 := VV_t8 v
  obtain ⟨s1, S1, ⟨s2, s3⟩, s4⟩ := set_1 (N := N) (t := xt σ f x) (v := xv σ f x) S z ok2 t8.1.1 t8.1.2
  have xR := zk_reg z mem_l x0
  have R25 := (PT_k S.1 z).2.2.2.2.1.2
  have hne : x ≠ s := fun q => by rcases ok2.2.2.2.2.2 x mem_l with k | k <;> rw [dc_p x0] at k <;> lia
  have s5 := s4 x x0 (by lia) hne
  refine ⟨s1, PT_ren S1.1 z.1 (by simp) (fun j hj t vv rv => ?_), S1.2⟩
  rw [List.length_append, List.length_singleton] at hj
  by_cases cj : j < ρ0.length
  · rw [app_at cj] at rv ⊢
    exact rv
  · have ej : j = ρ0.length := by omega
    subst ej
    rw [app_ln] at rv ⊢
    have vr := RV_V rv x0
    rw [s5.1, s5.2] at vr
    exact .inr (.inl ⟨ok2.1, by rw [s2, s3]; exact vr⟩)
theorem slf_1 {s r : Int32} (h : s < r + 2) (r0 : 0 ≤ r) (r1 : r ≤ 2500) (n1 : ¬ s = r) (n2 : ¬ s = r + 1) : s < r := by lia
theorem slf_2 {b k : Int32} (b0 : 0 ≤ b) (b1 : b ≤ 460000) (k0 : 0 ≤ k) (k1 : k ≤ 2000) : b + k ≤ 470000 := by lia
theorem slf_3 {B : Int32} (h : B ≤ 470000) (h0 : 0 ≤ B) : B ≤ 480000 ∧ B + 1 ≤ 480000 := ⟨by lia, by lia⟩
/-- COPY, PUT_STRING, INDEX: the reference's acts -/
theorem self_m {e : EV} {w : WD} {xf : Int32 → List Int32} {c d : Int32} {rest : PL2} {f : Int32} {fl : List Int32} {ρ0 : List Int32} {x : Int32} {g p q F n : Int32} {σ μ : mS} (zk0 : zk e g (ρ0 ++ [x])) (A : PT e w xf c d rest f fl (ρ0 ++ [x]) (-1) g p q F n σ μ) (ho : opx e p 15) (ha : acm e q 43) (ha2 : acm e (q + 1) 3) (ha3 : acm e (q + 2) 15) (ln : lin e p (q + 2)) (x0 : 0 ≤ x) (hl : ρ0.length + 2 ≤ 2000) : ∃ μ2 μ3 τ3 B, mm_act (eN e) μ = some μ2 ∧ sF μ2 178 = 0 ∧ mm_act (eN e) μ2 = some μ3 ∧ sF μ3 178 = 0 ∧ mm_act (eN e) μ3 = mm_index (eN e) τ3 (B + 1) ∧ ST e w xf c d rest f fl (ρ0 ++ [x]) (-1) g (p + 5) (q + 3) F n (xP σ f p 5) (md_pi τ3 143 (B + 1)) ∧ LE (xP σ f p 5) (mff τ3) f (n - 1) ∧ VV w (xt (xP σ f p 5) f x) (xv (xP σ f p 5) f x) (sI τ3 141 (B + 1)) (sJ τ3 142 (B + 1)) ∧ (sI τ3 141 (B + 2) = 3 ∧ sJ τ3 142 (B + 2) = Int32.toInt64 (sI (eμ e) 71 (q + 1))) ∧ (0 ≤ B ∧ B ≤ 470000) ∧ (∀ s ∈ eX' e, s ∈ wX w) := by
  have k01 := (PT_N A).2.1
  have A1 := ST_m A
  have hm1 := act_f A ha
  rw [af_43, act_g A ha, mf_43] at hm1
  generalize actP μ (n - 1) q = τ1 at A1 hm1
  obtain ⟨t1, t2, t3, _⟩ := PT_top A1 zk0.1
  obtain ⟨p1, p2⟩ := push_m1 (N := eN e) A1 zk0.1 t1
  have hm1' : mm_act (eN e) μ = some (mPu τ1 (sI τ1 141 (sF τ1 143 - 1)) (sJ τ1 142 (sF τ1 143 - 1))) := by
    rw [hm1, show τ1.1 143 = sF τ1 143 from rfl, gd_in (by decide) t2.1 t2.2, gd_in (by decide) t2.1 t2.2]
    exact (bd_me (fun z => rfl)).trans ((bd_me (fun z => rfl)).trans p1)
  generalize mPu τ1 (sI τ1 141 (sF τ1 143 - 1)) (sJ τ1 142 (sF τ1 143 - 1)) = μ2 at hm1' p2
  clear p1 t1 t2 t3 hm1 A1
  have A2 := ST_m p2
  have S2 := (PT_sx A2 5).1
  have hm2 := act_f p2 ha2
  rw [af_3] at hm2
  generalize actP μ2 (n - 1) (q + 1) = τ2 at A2 hm2 S2
  have z2 : zk e g (ρ0 ++ [x] ++ [x]) := ⟨by simp; omega, fun y hy => by
    rcases List.mem_append.mp hy with h | h
    · exact zk0.2 y h
    · exact zk0.2 y (List.mem_append_right _ h)⟩
  obtain ⟨B, ⟨b0, b1, b2⟩, ⟨B0, B1, B2⟩, e0, e1, v0', v1'⟩ := top_2 S2.1 z2.1
  have bb := bnd3 B0 B2
  have ps := push_mP (N := eN e) (μ := τ2) (t := 3) (v := Int32.toInt64 (sI (eμ e) 71 (q + 1))) b0 bb.2.2.1.1 bb.2.2.1.2 (by decide) (by decide)
  have hm2' : mm_act (eN e) μ2 = some (mPu τ2 3 (Int32.toInt64 (sI (eμ e) 71 (q + 1)))) := hm2.trans ((bd_me (fun z => rfl)).trans ps)
  have q0 : 0 ≤ sF τ2 143 := by rw [b0]; exact bb.2.2.1.1
  have y3 : mtc (n - 1) (B + 2) τ2 (mPu τ2 3 (Int32.toInt64 (sI (eμ e) 71 (q + 1)))) := mPu_y q0 (by rw [b0]; exact Int32.le_refl _)
  have i3 : sI (mPu τ2 3 (Int32.toInt64 (sI (eμ e) 71 (q + 1)))) 141 (B + 2) = 3 ∧ sJ (mPu τ2 3 (Int32.toInt64 (sI (eμ e) 71 (q + 1)))) 142 (B + 2) = Int32.toInt64 (sI (eμ e) 71 (q + 1)) := by
    rw [mPu_I q0 bb.2.2.1.1, mPu_J q0 bb.2.2.1.1, b0, if_pos rfl, if_pos rfl]
    exact ⟨rfl, rfl⟩
  have t3 : sF (mPu τ2 3 (Int32.toInt64 (sI (eμ e) 71 (q + 1)))) 143 = B + 3 := by rw [mPu_143, b0]; lia
  have q3 : mff (mPu τ2 3 (Int32.toInt64 (sI (eμ e) 71 (q + 1)))) (n - 1) 2 = q + 2 := by
    have := A2.2.2.2.1
    rw [A2.2.2.2.2.2] at this
    exact this.trans (by lia)
  have n3 : sF (mPu τ2 3 (Int32.toInt64 (sI (eμ e) 71 (q + 1)))) 154 = n := A2.2.2.2.2.2
  have B3 : mff τ2 (n - 1) 3 ≤ B + 2 := by
    have N := (PT_N A2).2.2.1
    have := (pl_1 (j := ρ0.length) (k := 0) N.1 N.2 (by omega) (by omega)).2.2.1
    rw [← e0] at this
    lia
  have H3 : MR0 e w xf c d rest f fl σ (mPu τ2 3 (Int32.toInt64 (sI (eμ e) 71 (q + 1)))) := MR0_tc A2.1.1 xtc_rfl (by rw [A2.2.2.2.2.2]; exact mtc_mono y3 B3)
  generalize mPu τ2 3 (Int32.toInt64 (sI (eμ e) 71 (q + 1))) = μ3 at hm2' y3 i3 t3 q3 n3 H3
  clear hm2 ps
  have hm3 := act_0 H3 n3 q3 ha3
  rw [af_15, act_b] at hm3
  have LL := LE_0 H3 n3 ho ln 5
  have y4 : mtc (n - 1) (B + 2) τ2 (actP μ3 (n - 1) (q + 2)) := mtc_tr y3 (actP_tc k01.1)
  have q4 : mff (actP μ3 (n - 1) (q + 2)) (n - 1) 2 = q + 3 := by
    show sI (actP μ3 (n - 1) (q + 2)) 146 (n - 1) = _
    rw [actP_146 k01.1 k01.1, if_pos rfl]; lia
  have t4 : sF (actP μ3 (n - 1) (q + 2)) 143 = B + 3 := (mf_F actP_fr rfl).trans t3
  have i4 : sI (actP μ3 (n - 1) (q + 2)) 141 (B + 2) = 3 ∧ sJ (actP μ3 (n - 1) (q + 2)) 142 (B + 2) = Int32.toInt64 (sI (eμ e) 71 (q + 1)) := ⟨(mf_I actP_fr rfl).trans i3.1, (mf_J actP_fr rfl).trans i3.2⟩
  have i5 := y4.2.2 (B + 1) bb.2.1.1 (by lia)
  generalize actP μ3 (n - 1) (q + 2) = τ3 at hm3 LL y4 q4 t4 i4 i5
  generalize xP σ f p 5 = τ at S2 LL v0' v1'
  have vx := RV_V v1' x0
  rw [← i5.1, ← i5.2] at vx
  have At := PT_take S2.1 (j := ρ0.length + 1) (by simp) e1
  rw [List.take_left' (by simp)] at At
  have St : ST e w xf c d rest f fl (ρ0 ++ [x]) (-1) g (p + 5) (q + 1 + 1) F n τ (md_pi τ2 143 (B + 1)) := ⟨At, S2.2⟩
  have Su := ST_up (μ2 := τ3) (q' := q + 3) St zk0.1 (P := B + 1) (by simp only [sF_pi, sF_pl, sF_ai, sF_al, sG_pi, sG_pl, sG_ai, sG_al, sI_pi, sI_pl, sI_al, sI_ai1, sI_ai2, sJ_pi, sJ_pl, sJ_ai, sJ_al1, sJ_al2, Nat.reduceEqDiff, if_true, if_false, ne_eq, not_false_eq_true, ite_true, ite_false]) (mtc_tr m143_bk (mtc_mono y4 (by lia))) q4
  rw [show τ3.1 143 = sF τ3 143 from rfl, t4, show B + 3 - 2 = B + 1 from by lia] at hm3
  refine ⟨μ2, μ3, τ3, B, hm1', (PT_0 p2).2, hm2', H3.1.2.2.2.2.2.2.2.2.2.2.2, hm3, Su, LL, vx, i4, ⟨B0, ?_⟩, H3.2.1.2.2.1⟩
  have N := (PT_N A2).2.2.1
  have h0 := oN_bd (n := ρ0.length) (by omega)
  have n1 := N.1
  have n2 := N.2
  rw [e0]
  exact slf_2 n1 n2 h0.1 h0.2
/-- SELF: COPY, PUT_STRING, INDEX -/
theorem r_self {e : EV} {w : WD} {xf : Int32 → List Int32} {c d : Int32} {rest : PL2} {f : Int32} {fl : List Int32} {ρ0 : List Int32} {x : Int32} {g p q F n : Int32} {σ μ : mS} {M rk : Nat} {r : Int32} (C : CXT e M F n rk) (hk : rk ≤ 2000000) (A : PT e w xf c d rest f fl (ρ0 ++ [x]) (-1) g p q F n σ μ) (z : eZ e rk g p q (ρ0 ++ [x]) (-1)) (ho : opx e p 15) (ha : acm e q 43) (ha2 : acm e (q + 1) 3) (ha3 : acm e (q + 2) 15) (ln : lin e p (q + 2)) (h1 : nx e (p + 1) = r) (h2 : nx e (p + 2) = x) (h3 : (nx e (p + 3), sI (eμ e) 71 (q + 1)) ∈ eX' e) (x0 : 0 ≤ x) (hl : ρ0.length + 2 ≤ 2000) (ok1 : okr (ρ0 ++ [x]) (r + 1) 1 (sI (eσ e) 261 g)) (ok2 : okr (ρ0 ++ [r + 1]) r 1 (sI (eσ e) 261 g)) (V1 : ∀ y, y ∈ ρ0 → dc y < r + 2) (V2 : r + 2 ≤ sI (eσ e) 261 g) (V3 : ∀ s, 0 ≤ s → s < r → s ∈ ρ0.map dc) (L : lo e rk g (p + 5) (q + 3) (ρ0 ++ [r + 1] ++ [r]) (-1)) : Good e (M + 3000) σ μ := by
  obtain ⟨E, hM, Z, _, _, G, _, _⟩ := id C
  have hx := PT_x A ho (fun s => rfl)
  have o := ops_1 ho.1.1 ho.1.2
  have zk0 := zk_of Z z
  obtain ⟨μ2, μ3, τ3, B, hm1', n2, hm2', n3, hm3, Su, LL, vx, i4, ⟨B0, B2⟩, hw⟩ := self_m zk0 A ho ha ha2 ha3 ln x0 hl
  have B3 := slf_3 B2 B0
  have bb := bnd3 B0 B3.1
  have h256 := fun i => xP_256 Su.1 i
  rw [sf_15, gd_in (by decide) o.1.1 o.1.2, gd_in (by decide) o.2.1.1 o.2.1.2, gd_in (by decide) o.2.2.1.1 o.2.2.1.2, rare_s, h256, h256, h256, h1, h2] at hx
  generalize xP σ f p 5 = τ at hx Su h256 LL vx
  have xR := zk_reg zk0 mem_l x0
  have rd := rd_r (N := eN e) Su x0 xR
  obtain ⟨m1, Sv⟩ := move_S (N := eN e) Su zk0 x0 (.inl ok1) ok1
  have zk1 : zk e g (ρ0 ++ [r + 1]) := ⟨by simp; omega, fun y hy => by
    rcases List.mem_append.mp hy with h | h
    · exact zk0.2 y (List.mem_append_left _ h)
    · rw [List.mem_singleton] at h
      subst h
      rw [dc_p ok1.1]
      have := ok1.2.2.2.2.1
      have := ok1.2.1
      have := ok1.1
      lia⟩
  obtain ⟨s1, Sw, ⟨s2, s3⟩, s4⟩ := set_1 (N := eN e) (t := 0) (v := 0) Sv zk1 ok2 (by decide) (by decide)
  rw [xx6_self, rd.1, bd_so, rd.2, bd_so, m1, bd_so, s1, bd_so, bx_me (fun z => rfl), xx6_index] at hx
  have e141 : ∀ i : Int32, τ3.2.2.1 141 i.toNatClampNeg = sI τ3 141 i := fun i => rfl
  have e142 : ∀ i : Int32, τ3.2.2.2 142 i.toNatClampNeg = sJ τ3 142 i := fun i => rfl
  rw [mm_index, gd_in (by decide) bb.2.1.1 bb.2.1.2, lt, gd_in (by decide) bb.2.1.1 bb.2.1.2, lt, bb.2.2.2.2.2.1, gd_in (by decide) bb.2.2.1.1 bb.2.2.1.2, lt, gd_in (by decide) bb.2.2.1.1 bb.2.2.1.2, lt, e141, e141, e142, e142, i4.1, i4.2] at hm3
  have vs : VV w 4 (Int32.toInt64 (nx e (p + 3))) 3 (Int32.toInt64 (sI (eμ e) 71 (q + 1))) := .inr (.inr (.inr (.inr (.inl ⟨rfl, rfl, _, _, rfl, rfl, .inr (hw _ h3)⟩))))
  have ct : ctS (eS e) (sI (eσ e) 261 g) g (p + 5) (q + 3) (ρ0 ++ [r + 1]) 1 r 1 1 0 := .inr (.inr (.inl ⟨rfl, rfl, rfl, ok2, lo_S hk L⟩))
  have b := MR0_f Sw.1.1.1
  rw [PT_R Sw.1] at b
  have LVx : LVd (xS (xS τ (sI τ 347 f + (r + 1)) (xt τ f x) (xv τ f x)) (sI (xS τ (sI τ 347 f + (r + 1)) (xt τ f x) (xv τ f x)) 347 f + r) 0 0) f (ρ0 ++ [r + 1]) (r + 2) := by
    refine ⟨fun y hy => ?_, Int32.le_trans V2 b.2.1.2.2, fun s s0 sr => ?_⟩
    · rcases List.mem_append.mp hy with h | h
      · exact V1 y h
      · rw [List.mem_singleton] at h
        subst h
        rw [dc_p ok1.1]
        have := ok1.2.1
        have := ok1.1
        lia
    · by_cases c1 : s = r
      · subst c1; exact .inr s2
      · by_cases c2 : s = r + 1
        · left
          rw [List.map_append]
          exact List.mem_append_right _ (by rw [c2]; show r + 1 ∈ [dc (r + 1)]; rw [dc_p ok1.1]; exact List.mem_singleton.mpr rfl)
        · left
          rw [List.map_append]
          refine List.mem_append_left _ (V3 s s0 ?_)
          exact slf_1 sr ok2.1 ok2.2.1 c1 c2
  have LL2 : LE (xS (xS τ (sI τ 347 f + (r + 1)) (xt τ f x) (xv τ f x)) (sI (xS τ (sI τ 347 f + (r + 1)) (xt τ f x) (xv τ f x)) 347 f + r) 0 0) (mff τ3) f (n - 1) := LE_fr (Q := fun _ => false) LL (mf_tr xS_f xS_f) mf_rfl rfl rfl rfl
  rcases index_2 (μ := μ) C zk1 vs ok2 ct LVx bb.2.1.1 B3.2 (eN e) 0 (by decide) (by decide) (by have := C.1.1; rw [show (0 : Int32).toInt = 0 from rfl]; omega) _ _ _ _ τ3 vx Sw LL2 with ⟨tx, v1, tm, v2, μ', v, i1, i2, S3⟩ | G2
  · obtain ⟨p1, p2', p3⟩ := push_1 (N := eN e) (N' := eN e) S3 zk1 ok2 v
    refine Good_mono (good_m (PT_0 A).2 hm1' (good_m n2 hm2' (good_2 (M := M) (PT_0 A).1 n3 (hx.trans i1) (hm3.trans i2) (GK_lo G p3.1 L)))) (by omega)
  · refine Good_mono (good_m (PT_0 A).2 hm1' (good_m n2 hm2' (good_b (PT_0 A).1 n3 hx hm3 G2))) (by omega)
