/-! LAYER 2: the running coroutine waits: the machines then -/
def yX (k : Nat) : Bool := [323, 332, 333, 334, 339, 358].contains k || inR 397 411 k
def yM (k : Nat) : Bool := [143, 154, 155, 156, 172, 188, 189, 190].contains k || inR 163 169 k || inR 173 177 k
theorem yX_f {k : Nat} (h : k ≠ 323 ∧ (k < 332 ∨ 334 < k) ∧ k ≠ 339 ∧ k ≠ 358 ∧ (k < 397 ∨ 411 < k)) : yX k = false := by
  simp only [yX, inR, List.contains_cons, List.contains_nil, Bool.or_eq_false_iff, beq_eq_false_iff_ne, Bool.and_eq_false_iff, decide_eq_false_iff_not]
  (repeat' (first | exact trivial | omega | apply And.intro))
theorem yM_f {k : Nat} (h : k ≠ 143 ∧ (k < 154 ∨ 156 < k) ∧ (k < 163 ∨ 169 < k) ∧ k ≠ 172 ∧ (k < 173 ∨ 177 < k) ∧ (k < 188 ∨ 190 < k)) : yM k = false := by
  simp only [yM, inR, List.contains_cons, List.contains_nil, Bool.or_eq_false_iff, beq_eq_false_iff_ne, Bool.and_eq_false_iff, Bool.or_eq_false_iff, decide_eq_false_iff_not]
  (repeat' (first | exact trivial | omega | apply And.intro))
theorem xcs_y {σ τ : mS} {g : Int32} (fr : m_fr yX σ τ) : xcs σ τ g := ⟨fun k hk => mf_I fr (yX_f (by omega)), fun x _ _ => by
  simp only [xt, xv]
  rw [mf_I fr (yX_f (by omega)), mf_I fr (yX_f (by omega)), mf_J fr (yX_f (by omega))]
  exact ⟨rfl, rfl⟩⟩
theorem y_n1 {n k0 : Int32} (h0 : 0 ≤ k0) (h : k0 ≤ n) (h1 : n ≤ 200) : 0 ≤ n - k0 ∧ n - k0 ≤ 200 ∧ (n - k0).toInt = n.toInt - k0.toInt := by
  refine ⟨by lia, by lia, ?_⟩
  rw [tI_le] at h0 h h1
  have z0 : (0 : Int32).toInt = 0 := rfl
  have z1 : (200 : Int32).toInt = 200 := rfl
  rw [tI_sub (by omega) (by omega)]
theorem y_n2 {B i : Int32} (b0 : 0 ≤ B) (h : B ≤ i) : 0 ≤ i - B := by lia
theorem y_n3 {B i p : Int32} (b0 : 0 ≤ B) (h : B ≤ i) (h1 : i < p) (hp : p ≤ 470000) : i - B < p - B := by lia
theorem y_n4 {B i : Int32} : B + (i - B) = i := by lia
theorem y_n5 {a : Int32} (h : 1 ≤ a) : a - 1 ≤ a := by lia
set_option maxHeartbeats 2000000 in
theorem ME_lay {S : SR} {K : Int32 → Int32 → Int32 → Prop} {q : Int} {w : WD} {xf : Int32 → List Int32} {c d c2 d2 : Int32} {rest : PL2} {σ μ τ τm : mS} {ct : CT} (H : ME S K q w xf c d ((c2, d2) :: rest) σ μ) (L : FL S w σ (mff μ) (sI μ 141) (sJ μ 142) (btO d) (sI μ 162 d) (sI μ 161 d) (xf c) (sF μ 154) ct) (fr : m_fr yX σ τ) (frm : m_fr yM μ τm)
    (x323 : ∀ x, 0 ≤ x → sI τ 323 x = if x = c2 then 1 else if x = c then 0 else sI σ 323 x) (x332 : ∀ x, 0 ≤ x → sI τ 332 x = if x = c then ct.1 else sI σ 332 x) (x333 : ∀ x, 0 ≤ x → sI τ 333 x = if x = c then ct.2.1 else sI σ 333 x) (x334 : ∀ x, 0 ≤ x → sI τ 334 x = if x = c then ct.2.2.1 else sI σ 334 x) (x339 : sF τ 339 = c2) (x358 : sF τ 358 = sF σ 358 - 1)
    (m154 : sF τm 154 = sI μ 162 d - 1) (m155 : sF τm 155 = sF μ 155 - 1) (m156 : ∀ x, 0 ≤ x → sI τm 156 x = if x = d2 then 1 else if x = d then 0 else sI μ 156 x) (m172 : sF τm 172 = d2) (m164 : ∀ x, 0 ≤ x → sI τm 164 x = if x = d then ct.2.2.2.1 - sI μ 161 d else sI μ 164 x) (m166 : ∀ x, 0 ≤ x → sI τm 166 x = if x = d then sF μ 154 - sI μ 162 d else sI μ 166 x) (m167 : ∀ x, 0 ≤ x → sI τm 167 x = if x = d then ct.2.2.2.1 - sI μ 161 d else sI μ 167 x) (m168 : ∀ x, 0 ≤ x → sI τm 168 x = if x = d then ct.2.2.2.2.1 else sI μ 168 x) (m169 : ∀ x, 0 ≤ x → sI τm 169 x = if x = d then ct.2.2.2.2.2 else sI μ 169 x)
    (oth : ∀ e, wts μ e → (∀ k j, 0 ≤ k → k < sI μ 166 e → j < 10 → kff τm e k j = kff μ e k j) ∧ ∀ i, 0 ≤ i → i < sI μ 164 e → kpt τm e i = kpt μ e i ∧ kpv τm e i = kpv μ e i) (own1 : ∀ k, sI μ 162 d ≤ k → k < sF μ 154 → (∀ j, j < 10 → j ≠ 3 → j ≠ 5 → kff τm d (k - sI μ 162 d) j = mff μ k j) ∧ kff τm d (k - sI μ 162 d) 3 = mff μ k 3 - sI μ 161 d ∧ kff τm d (k - sI μ 162 d) 5 = mff μ k 5 - sI μ 161 d) (own2 : ∀ i, 0 ≤ i → i < ct.2.2.2.1 - sI μ 161 d → kpt τm d i = sI μ 141 (sI μ 161 d + i) ∧ kpv τm d i = sJ μ 142 (sI μ 161 d + i)) (KL' : KLx τm (fun e => wts μ e ∨ e = d)) : ME S K q w xf c2 d2 rest τ τm ∧ FL S w τ (mff τm) (sI τm 141) (sJ τm 142) (btO d2) (sI τm 162 d2) (sI τm 161 d2) (xf c2) (sF τm 154) (sI σ 329 c, sI σ 330 c, sI σ 331 c, mff μ (sF τm 154) 5, mff μ (sF τm 154) 6, mff μ (sF τm 154) 7) ∧ ((sI σ 328 c = 0 ∧ sI μ 144 (sF τm 154) = 2) ∨ (sI σ 328 c = 1 ∧ sI μ 144 (sF τm 154) = 3)) := by
  have cl := ME_calls H
  have cc := ME_c H
  obtain ⟨⟨RR, h1⟩, Z, HH, X, C, Bc, h7, h8, ⟨o1, o2, o3, o4, o5⟩, h10, h10', h11⟩ := H
  have W := RR.1
  have mem := BC_mem Bc
  have st2 := BC_st2 Bc
  obtain ⟨ncx, pcx⟩ := cX_nd C
  have kbA := BC_kb Bc
  simp only at kbA
  have plk := FL_pl L kbA.1 cl.2.1 kbA.2.2.1 kbA.2.2.2.2
  have plB := (FL_B L ⟨kbA.1, Int32.le_trans cl.2.1 (by decide), kbA.2.2.1, kbA.2.2.2.1⟩).1
  obtain ⟨b1, b2, b3, b4, b5, b6, b7, b8, b9, b10⟩ := Bc
  have kb' := BC_kb b10
  simp only at kb'
  have i : ∀ k, yM k = false → ∀ m, sI τm k m = sI μ k m := fun k h m => mf_I frm h
  have fm : ∀ k, yM k = false → sF τm k = sF μ k := fun k h => mf_F frm h
  have cds' : cds w σ τ := cds_fr fr (yX_f (by omega)) (yX_f (by omega)) (yX_f (by omega))
  have w6 := W.2.2.2.2.2 c d b1
  have c0 : 0 ≤ c := Int32.le_trans (by decide) w6.1
  have nd1 : (c :: c2 :: rest.map Prod.fst).Nodup := by simpa using h8
  have nd2 : (c2 :: rest.map Prod.fst).Nodup := (List.nodup_cons.mp nd1).2
  have cne : c ≠ c2 := fun r => (List.nodup_cons.mp nd1).1 (by rw [r]; exact List.mem_cons_self)
  have chn : ∀ p, p ∈ (c2, d2) :: rest → p.1 ≠ c ∧ p.2 ≠ d ∧ 0 ≤ p.1 ∧ 0 ≤ p.2 := fun p hp => by
    have pc : p.1 ≠ c := fun r => (List.nodup_cons.mp nd1).1 (by
      rw [← r]
      have : p.1 ∈ ((c2, d2) :: rest).map Prod.fst := List.mem_map.mpr ⟨p, hp, rfl⟩
      simpa using this)
    rcases mem p (List.mem_cons_of_mem _ hp) with z | z
    · rw [z] at pc ⊢
      exact ⟨pc, fun r => absurd w6.2.2 (by have r' : (120 : Int32) = d := r
                                            rw [← r']; decide), by decide, by decide⟩
    · have w6' := W.2.2.2.2.2 p.1 p.2 z.1
      exact ⟨pc, fun r => pc ((W.2.2.1 p.1 p.2 c d z.1 b1).mpr r), Int32.le_trans (by decide) w6'.1, w6'.2.1⟩
  have c2p := chn (c2, d2) List.mem_cons_self
  simp only at c2p
  have rne : ∀ p, p ∈ rest → p.1 ≠ c2 ∧ p.2 ≠ d2 := fun p hp => by
    have pc : p.1 ≠ c2 := fun r => (List.nodup_cons.mp nd2).1 (by rw [← r]; exact List.mem_map.mpr ⟨p, hp, rfl⟩)
    refine ⟨pc, fun r => ?_⟩
    rcases mem p (List.mem_cons_of_mem _ (List.mem_cons_of_mem _ hp)) with z | z
    · rcases mem (c2, d2) (List.mem_cons_of_mem _ List.mem_cons_self) with y | y
      · have := (Prod.mk.inj y).1
        rw [z] at pc
        exact pc this.symm
      · have := (W.2.2.2.2.2 c2 d2 y.1).2.2
        rw [z] at r
        have r' : (120 : Int32) = d2 := r
        rw [← r'] at this
        exact absurd this (by decide)
    · rcases mem (c2, d2) (List.mem_cons_of_mem _ List.mem_cons_self) with y | y
      · have e := (Prod.mk.inj y).2
        have := (W.2.2.2.2.2 p.1 p.2 z.1).2.2
        rw [r, e] at this
        exact absurd this (by decide)
      · exact pc ((W.2.2.1 p.1 p.2 c2 d2 z.1 y.1).mpr r)
  have many := y_n1 kbA.1 plk.2.2 cl.2.1
  have d1 := tI_dec (k := 0) (n := sF σ 358) (by
    rw [tI_lt]
    show (0 : Int) < _
    simp only [List.length_cons] at o4
    omega)
  have d2' := tI_dec (k := 0) (n := sI μ 162 d) (Int32.lt_of_lt_of_le (by decide) b3.1)
  have d3 := tI_dec (k := 0) (n := sF μ 155) (by rw [← o1]; rw [tI_lt]; show (0 : Int) < _; simp only [List.length_cons] at o4; omega)
  have ks : kSum w τm = kSum w μ + ((sF μ 154).toInt - (sI μ 162 d).toInt) := by
    have nd := wC_nd C
    have := kS_one (f := fun x => (sI μ 166 x.2).toInt) (g := fun x => (sI τm 166 x.2).toInt) (p := (c, d)) nd b1 (fun x hx ne => by
      have w6' := W.2.2.2.2.2 x.1 x.2 hx
      have : x.2 ≠ d := fun z => ne (by
        have := (W.2.2.1 x.1 x.2 c d hx b1).mpr z
        exact Prod.ext this z)
      rw [m166 x.2 w6'.2.1, if_neg this])
    simp only at this
    rw [m166 d w6.2.1, if_pos rfl, b2.2.2.1, many.2.2] at this
    have z0 : (0 : Int32).toInt = 0 := rfl
    simp only [kSum]
    omega
  have bt4 : btO d = 4 := by
    rw [btO_d, if_neg (fun z => absurd w6.2.2 (by rw [z]; decide))]
  have ownFL : FL S w τ (kff τm d) (kpt τm d) (kpv τm d) 4 0 0 (xf c) (sI τm 166 d) (sI τ 332 c, sI τ 333 c, sI τ 334 c, sI τm 167 d, sI τm 168 d, sI τm 169 d) := by
    have L1 : FL S w τ (mff μ) (sI μ 141) (sJ μ 142) (btO d) (sI μ 162 d) (sI μ 161 d) (xf c) (sF μ 154) ct := FL_cg L ⟨kbA.1, Int32.le_trans cl.2.1 (by decide), kbA.2.2.1, kbA.2.2.2.1⟩ wle_rfl (fun g _ => xcs_y fr) cds' (fun _ _ _ _ _ => rfl) (fun _ _ _ => ⟨rfl, rfl⟩)
    have L2 := FL_sh (ff' := kff τm d) (pt' := kpt τm d) (pv' := kpv τm d) (k0' := 0) (B0' := 0) ⟨kbA.2.2.1, Int32.le_trans plB (Int32.le_trans plk.2.1 (by decide))⟩ ⟨by decide, by decide⟩ ⟨kbA.1, kbA.2.1⟩ ⟨by decide, by decide⟩ L1 (Int32.le_trans cl.2.1 (by decide)) (fun k h0 h1 => by
      rw [Int32.add_zero]
      obtain ⟨r1, r3, r5⟩ := own1 k h0 h1
      exact ⟨r1, by rw [r3, Int32.add_zero], by rw [r5, Int32.add_zero]⟩) (fun i h0 h1 => by
      have := own2 (i - sI μ 161 d) (y_n2 kbA.2.2.1 h0) (y_n3 kbA.2.2.1 h0 h1 plk.2.1)
      rw [y_n4] at this
      rw [Int32.add_zero]
      exact this) (Int32.le_trans plk.2.1 (by decide))
    rw [bt4] at L2
    rw [x332 c c0, if_pos rfl, x333 c c0, if_pos rfl, x334 c c0, if_pos rfl, m166 d w6.2.1, if_pos rfl, m167 d w6.2.1, if_pos rfl, m168 d w6.2.1, if_pos rfl, m169 d w6.2.1, if_pos rfl]
    rw [Int32.add_zero, Int32.add_zero] at L2
    exact L2
  have row : ∀ k j, j < 10 → mff τm k j = mff μ k j := fun k j hj => i _ (yM_f (by omega)) k
  refine ⟨⟨⟨by rw [fQ_e (fm 171 (yM_f (by omega))) (mf_I frm (yM_f (by omega)))]; exact RH_fr RR fr frm (fun k a b => yX_f (by omega)) (fun k a b _ _ _ _ _ _ => yM_f (by omega)), h1⟩, ZS_fr Z fr (yX_f (by omega)), HO_fr HH wle_rfl fr frm (fun k hk => yX_f (by omega)) (fun k a b => yM_f (by omega)) (fun a b _ => xL_fr fr (fun k a b => yX_f (by omega))) (fun k _ => by rw [frm.2.2.1 44 (yM_f (by omega))]), XF_w X fr (yX_f (by omega)) (yX_f (by omega)) (yX_f (by omega)) (fun k a b z => yX_f (by omega)), ⟨fun a b hab => ?_, fun e e0 e1 he => ?_, ?_, ?_, ?_, ?_⟩, BC_gen cds' b10 (fun p hp => ?_) (fun p hp => ?_) (fun k j _ _ hj => row k j hj) (fun m _ _ => ⟨i 141 (yM_f (by omega)) m, mf_J frm (yM_f (by omega))⟩), ⟨x339, m172, ?_, ?_⟩, by simpa using nd2, ⟨?_, ?_, ?_, ?_, ?_⟩, ?_, ?_, ?_⟩, ?_, ?_⟩
  · obtain ⟨a1, a2, a3, a4, a5⟩ := C.1 a b hab
    have w6' := W.2.2.2.2.2 a b hab
    have a0 : 0 ≤ a := Int32.le_trans (by decide) w6'.1
    have q2 : a = c2 ↔ b = d2 := by
      rcases mem (c2, d2) (List.mem_cons_of_mem _ List.mem_cons_self) with y | y
      · obtain ⟨y1, y2⟩ := Prod.mk.inj y
        subst y1; subst y2
        exact ⟨fun r => absurd w6'.1 (by rw [r]; decide), fun r => absurd w6'.2.2 (by rw [r]; decide)⟩
      · exact W.2.2.1 a b c2 d2 hab y.1
    have q1 : a = c ↔ b = d := W.2.2.1 a b c d hab b1
    have t323 := x323 a a0
    have t156 := m156 b w6'.2.1
    refine ⟨a1, ?_, by rw [mf_J fr (yX_f (by omega)), i 157 (yM_f (by omega))]; exact a3, by rw [i 170 (yM_f (by omega))]; exact a4, ?_⟩
    · rw [t323, t156]
      by_cases r2 : a = c2
      · rw [if_pos r2, if_pos (q2.mp r2)]
      · rw [if_neg r2, if_neg (fun z => r2 (q2.mpr z))]
        by_cases r1 : a = c
        · rw [if_pos r1, if_pos (q1.mp r1)]
        · rw [if_neg r1, if_neg (fun z => r1 (q1.mpr z))]; exact a2
    · by_cases r1 : a = c
      · right
        have rb := q1.mp r1
        subst r1; subst rb
        refine .inr (.inr ⟨by rw [t323, if_neg cne, if_pos rfl], by rw [mf_I fr (yX_f (by omega))]; exact b2.1, by rw [i 159 (yM_f (by omega))]; exact b2.2.1, ownFL, ?_, ?_, ?_⟩)
        · rw [m167 _ w6.2.1, m164 _ w6.2.1, if_pos rfl, if_pos rfl]
        · rw [m166 _ w6.2.1, if_pos rfl]; exact many.1
        · rw [m166 _ w6.2.1, if_pos rfl]; exact many.2.1
      · have nb : b ≠ d := fun z => r1 (q1.mpr z)
        rcases a5 with y | y
        · rcases List.mem_cons.mp y with z | z
          · exact absurd (Prod.mk.inj z).1 r1
          · exact .inl z
        · right
          have nc2 : a ≠ c2 := fun z => by
            have s1 : sI σ 323 c2 = 2 := (st2 (c2, d2) List.mem_cons_self).1
            rw [z] at y
            rcases y with v | v | v
            · exact absurd (v.1.symm.trans s1) (by decide)
            · exact absurd (v.1.symm.trans s1) (by decide)
            · exact absurd (v.1.symm.trans s1) (by decide)
          have e323 : sI τ 323 a = sI σ 323 a := by rw [t323, if_neg nc2, if_neg r1]
          have e324 : sI τ 324 a = sI σ 324 a := mf_I fr (yX_f (by omega))
          have e325 : sJ τ 325 a = sJ σ 325 a := mf_J fr (yX_f (by omega))
          have e164 : sI τm 164 b = sI μ 164 b := by rw [m164 b w6'.2.1, if_neg nb]
          have e166 : sI τm 166 b = sI μ 166 b := by rw [m166 b w6'.2.1, if_neg nb]
          rcases y with ⟨v1, v2, v3, v4, v5⟩ | ⟨v1, v2, v3, v4, v5, v6, v7⟩ | ⟨v1, v3, v4, v5, v6, v7, v8⟩
          · exact .inl ⟨by rw [e323]; exact v1, v2, by rw [e324]; exact v3, by rw [e166]; exact v4, by rw [e164]; exact v5⟩
          · exact .inr (.inl ⟨by rw [e323]; exact v1, v2, by rw [e324]; exact v3, by rw [i 159 (yM_f (by omega))]; exact v4, by rw [e325, i 158 (yM_f (by omega))]; exact v5, by rw [e166]; exact v6, by rw [e164]; exact v7⟩)
          · have wt : wts μ b := ⟨w6'.2.1, w6'.2.2, a4, by rw [← a2]; exact v1, v4⟩
            obtain ⟨t1, t2⟩ := oth b wt
            refine .inr (.inr ⟨by rw [e323]; exact v1, by rw [e324]; exact v3, by rw [i 159 (yM_f (by omega))]; exact v4, ?_, by rw [m167 b w6'.2.1, if_neg nb, e164]; exact v6, by rw [e166]; exact v7, by rw [e166]; exact v8⟩)
            rw [x332 a a0, if_neg r1, x333 a a0, if_neg r1, x334 a a0, if_neg r1, e166, m167 b w6'.2.1, if_neg nb, m168 b w6'.2.1, if_neg nb, m169 b w6'.2.1, if_neg nb]
            exact FL_cg v5 ⟨by decide, Int32.le_trans v8 (by decide), by decide, by decide⟩ wle_rfl (fun g _ => xcs_y fr) cds' (fun k j h0 h1 hj => t1 k j h0 h1 hj) (fun i h0 h1 => t2 i h0 (by rw [← v6]; exact h1))
  · rw [i 170 (yM_f (by omega))]; exact C.2.1 e e0 e1 he
  · obtain ⟨fcs, g⟩ := C.2.2.1
    refine ⟨fcs, ?_⟩
    rw [mf_F fr (yX_f (by omega))]
    exact ⟨seg_congr g.1 (fun x _ => mf_I fr (yX_f (by omega))), g.2⟩
  · rw [mf_F fr (yX_f (by omega)), fm 171 (yM_f (by omega))]; exact C.2.2.2.1
  · rw [mf_J fr (yX_f (by omega)), i 157 (yM_f (by omega))]; exact C.2.2.2.2.1
  · -- what is kept
    have wt : ∀ e, wts τm e → wts μ e ∨ e = d := fun e he => by
      obtain ⟨e0, e1, e2, e3, e4⟩ := he
      rw [m156 e e0] at e3
      by_cases z1 : e = d2
      · rw [if_pos z1] at e3; exact absurd e3 (by decide)
      · rw [if_neg z1] at e3
        by_cases z2 : e = d
        · exact .inr z2
        · rw [if_neg z2] at e3
          rw [i 170 (yM_f (by omega))] at e2
          rw [i 159 (yM_f (by omega))] at e4
          exact .inl ⟨e0, e1, e2, e3, e4⟩
    exact ⟨KL'.1, KL'.2.1, fun e he => KL'.2.2.1 e (wt e he), fun e f he hf ne => KL'.2.2.2 e f (wt e he) (wt f hf) ne⟩
  · obtain ⟨n1, n2⟩ := rne p hp
    obtain ⟨n3, n4, n5, n6⟩ := chn p (List.mem_cons_of_mem _ hp)
    exact ⟨rfl, fun g _ => xcs_y fr, by rw [x323 _ n5, if_neg n1, if_neg n3], by rw [m156 _ n6, if_neg n2, if_neg n4]⟩
  · obtain ⟨n3, n4, n5, n6⟩ := chn p hp
    refine ⟨fun k hk => mf_I fr (yX_f (by omega)), fun k hk => ?_⟩
    rcases hk with z | z | z
    · exact i k (yM_f (by omega)) _
    · rw [z, m164 _ n6, if_neg n4]
    · rw [z, m166 _ n6, if_neg n4]
  · rw [x323 c2 c2p.2.2.1, if_pos rfl]
  · rw [m156 d2 c2p.2.2.2, if_pos rfl]
  · rw [x358, m155, o1]
  · rw [x358, tI_le, d1]
    show (0 : Int) ≤ _
    simp only [List.length_cons] at o4
    omega
  · rw [x358, tI_le, d1]
    have := o3
    rw [tI_le] at this
    omega
  · rw [x358, d1]
    simp only [List.length_cons] at o4
    omega
  · rw [m155, m154, d3, d2', ks]
    omega
  · rw [mf_F fr (yX_f (by omega)), fm 180 (yM_f (by omega))]; exact h10
  · rw [mf_F fr (yX_f (by omega))]; exact h10'
  · rw [fm 178 (yM_f (by omega))]; exact h11
  · have e162 : sI τm 162 d2 = sI μ 162 d2 := i 162 (yM_f (by omega)) d2
    have e161 : sI τm 161 d2 = sI μ 161 d2 := i 161 (yM_f (by omega)) d2
    rw [e162, e161, m154]
    have kb2 : kb (sI μ 162 d2) (sI μ 161 d2) (sI μ 162 d - 1) := ⟨kb'.1, Int32.le_trans (y_n5 b3.1) (Int32.le_trans b3.2 (by decide)), kb'.2.2.1, kb'.2.2.2.1⟩
    exact FL_cg b9 kb2 wle_rfl (fun g _ => xcs_y fr) cds' (fun k j _ _ hj => row k j hj) (fun m _ _ => ⟨i 141 (yM_f (by omega)) m, mf_J frm (yM_f (by omega))⟩)
  · rw [m154]; exact b4
