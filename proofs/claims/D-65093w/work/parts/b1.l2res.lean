/-! LAYER 2: a coroutine is resumed: the machines then -/
theorem BC_gen {S : SR} {w : WD} {xf xf' : Int32 → List Int32} {σ μ τ τm : mS} (hc : cds w σ τ) : ∀ {p : Int32 × Int32} {rest : PL2}, BC S w xf σ μ p rest → (∀ e, e ∈ rest → xf' e.1 = xf e.1 ∧ (∀ g, g ∈ xf e.1 → xcs σ τ g) ∧ sI τ 323 e.1 = sI σ 323 e.1 ∧ sI τm 156 e.2 = sI μ 156 e.2) → (∀ e, e ∈ p :: rest → (∀ k, k = 324 ∨ (327 ≤ k ∧ k ≤ 331) → sI τ k e.1 = sI σ k e.1) ∧ ∀ k, (159 ≤ k ∧ k ≤ 162) ∨ k = 164 ∨ k = 166 → sI τm k e.2 = sI μ k e.2) → (∀ k j, 0 ≤ k → k < sI μ 162 p.2 → j < 10 → mff τm k j = mff μ k j) → (∀ i, 0 ≤ i → i < sI μ 161 p.2 → sI τm 141 i = sI μ 141 i ∧ sJ τm 142 i = sJ μ 142 i) → BC S w xf' τ τm p rest
  | (c, d), [], h, _, hf, _, _ => by
    obtain ⟨h1, h2, h3, h4⟩ := h
    have q := (hf (c, d) List.mem_cons_self).2
    subst h2
    exact ⟨h1, rfl, (q 162 (.inl (by omega))).trans h3, (q 161 (.inl (by omega))).trans h4⟩
  | (c, d), e :: rest, h, hx, hf, hm, hpl => by
    obtain ⟨h1, h2, h3, h4, h5, h6, h7, h8, h9, h10⟩ := h
    have kb' := BC_kb h10
    simp only at hm hpl
    have q := hf (c, d) List.mem_cons_self
    have q2 := hf e (List.mem_cons_of_mem _ List.mem_cons_self)
    obtain ⟨x1, x2, x3, x4⟩ := hx e List.mem_cons_self
    have a324 : sI τ 324 c = sI σ 324 c := q.1 324 (.inl rfl)
    have a327 : sI τ 327 c = sI σ 327 c := q.1 327 (.inr (by omega))
    have a328 : sI τ 328 c = sI σ 328 c := q.1 328 (.inr (by omega))
    have a329 : sI τ 329 c = sI σ 329 c := q.1 329 (.inr (by omega))
    have a330 : sI τ 330 c = sI σ 330 c := q.1 330 (.inr (by omega))
    have a331 : sI τ 331 c = sI σ 331 c := q.1 331 (.inr (by omega))
    have b159 : sI τm 159 d = sI μ 159 d := q.2 159 (.inl (by omega))
    have b160 : sI τm 160 d = sI μ 160 d := q.2 160 (.inl (by omega))
    have b161 : sI τm 161 d = sI μ 161 d := q.2 161 (.inl (by omega))
    have b162 : sI τm 162 d = sI μ 162 d := q.2 162 (.inl (by omega))
    have b164 : sI τm 164 d = sI μ 164 d := q.2 164 (.inr (.inl rfl))
    have b166 : sI τm 166 d = sI μ 166 d := q.2 166 (.inr (.inr rfl))
    have c161 : sI τm 161 e.2 = sI μ 161 e.2 := q2.2 161 (.inl (by omega))
    have c162 : sI τm 162 e.2 = sI μ 162 e.2 := q2.2 162 (.inl (by omega))
    have m5 := hm (sI μ 162 d - 1) 5 (by lia) (by lia) (by omega)
    have m6 := hm (sI μ 162 d - 1) 6 (by lia) (by lia) (by omega)
    have m7 := hm (sI μ 162 d - 1) 7 (by lia) (by lia) (by omega)
    have m0 : sI τm 144 (sI μ 162 d - 1) = sI μ 144 (sI μ 162 d - 1) := hm (sI μ 162 d - 1) 0 (by lia) (by lia) (by omega)
    have kb2 : kb (sI μ 162 e.2) (sI μ 161 e.2) (sI μ 162 d - 1) := ⟨kb'.1, by lia, kb'.2.2.1, kb'.2.2.2.1⟩
    have fb := FL_B h9 kb2
    have fb1 : sI μ 161 e.2 ≤ mff μ (sI μ 162 d - 1) 5 := fb.1
    refine ⟨h1, ?_, ?_, ?_, ?_, ?_, ?_, ?_, ?_, BC_gen hc h10 (fun p hp => hx p (List.mem_cons_of_mem _ hp)) (fun p hp => hf p (List.mem_cons_of_mem _ hp)) (fun k j k0 k1 hj => hm k j k0 (by lia) hj) (fun m m0 m1 => hpl m m0 (by lia))⟩
    · rw [a324, b159, b166, b164]; exact h2
    · rw [b162]; exact h3
    · rw [a328, b162, m0]; exact h4
    · rw [b161, b162, m5]; exact h5
    · rw [a327, b160]; exact h6
    · rw [x3, x4]; exact h7
    · rw [b161, b162]; exact h8
    · rw [b162, c162, c161, a329, a330, a331, m5, m6, m7, x1]
      refine FL_cg h9 kb2 wle_rfl x2 hc (fun k j k0 k1 hj => hm k j (by lia) (by lia) hj) (fun m m0 m1 => ?_)
      have m1' : m < mff μ (sI μ 162 d - 1) 5 := m1
      exact hpl m (by lia) (by lia)
theorem BC_120 {S : SR} {w : WD} {xf : Int32 → List Int32} {σ μ : mS} : ∀ {p : Int32 × Int32} {rest : PL2}, BC S w xf σ μ p rest → (0, 120) ∈ p :: rest
  | (c, d), [], h => by rw [h.1, h.2.1]; exact List.mem_cons_self
  | _, e :: rest, h => List.mem_cons_of_mem _ (BC_120 h.2.2.2.2.2.2.2.2.2)
theorem BC_st2 {S : SR} {w : WD} {xf : Int32 → List Int32} {σ μ : mS} : ∀ {p : Int32 × Int32} {rest : PL2}, BC S w xf σ μ p rest → ∀ e, e ∈ rest → sI σ 323 e.1 = 2 ∧ sI μ 156 e.2 = 2
  | (c, d), [], _, e, he => absurd he (by simp)
  | (c, d), e' :: rest, h, e, he => by
    rcases List.mem_cons.mp he with q | q
    · rw [q]; exact h.2.2.2.2.2.2.1
    · exact BC_st2 h.2.2.2.2.2.2.2.2.2 e q
def rsX (k : Nat) : Bool := [323, 324, 327, 328, 329, 330, 331, 339, 358].contains k || inR 397 411 k
def rsM (k : Nat) : Bool := [159, 160, 161, 162, 164, 166, 172, 188, 189, 190].contains k || inR 141 156 k
theorem rsX_f {k : Nat} (h : k ≠ 323 ∧ k ≠ 324 ∧ (k < 327 ∨ 331 < k) ∧ k ≠ 339 ∧ k ≠ 358 ∧ (k < 397 ∨ 411 < k)) : rsX k = false := by
  simp only [rsX, inR, List.contains_cons, List.contains_nil, Bool.or_eq_false_iff, beq_eq_false_iff_ne, Bool.and_eq_false_iff, decide_eq_false_iff_not]
  (repeat' (first | exact trivial | omega | apply And.intro))
theorem rsM_f {k : Nat} (h : (k < 141 ∨ 156 < k) ∧ (k < 159 ∨ 162 < k) ∧ k ≠ 164 ∧ k ≠ 166 ∧ k ≠ 172 ∧ (k < 188 ∨ 190 < k)) : rsM k = false := by
  simp only [rsM, inR, List.contains_cons, List.contains_nil, Bool.or_eq_false_iff, beq_eq_false_iff_ne, Bool.and_eq_false_iff, decide_eq_false_iff_not]
  (repeat' (first | exact trivial | omega | apply And.intro))
theorem xcs_rs {σ τ : mS} {g : Int32} (fr : m_fr rsX σ τ) : xcs σ τ g := ⟨fun k hk => mf_I fr (rsX_f (by omega)), fun x _ _ => by
  simp only [xt, xv]
  rw [mf_I fr (rsX_f (by omega)), mf_I fr (rsX_f (by omega)), mf_J fr (rsX_f (by omega))]
  exact ⟨rfl, rfl⟩⟩
/-- the sum of what is kept, when one is kept no more -/
theorem kS_one {l : PL2} {f g : Int32 × Int32 → Int} {p : Int32 × Int32} (nd : l.Nodup) (hp : p ∈ l) (h : ∀ x, x ∈ l → x ≠ p → g x = f x) : (l.map g).sum + f p = (l.map f).sum + g p := by
  induction l with
  | nil => exact absurd hp (by simp)
  | cons a l ih =>
    obtain ⟨n1, n2⟩ := List.nodup_cons.mp nd
    simp only [List.map_cons, List.sum_cons]
    rcases List.mem_cons.mp hp with q | q
    · subst q
      have : l.map g = l.map f := List.map_congr_left (fun x hx => h x (List.mem_cons_of_mem _ hx) (fun z => n1 (z ▸ hx)))
      rw [this]; omega
    · have := ih n2 q (fun x hx => h x (List.mem_cons_of_mem _ hx))
      have e := h a List.mem_cons_self (fun z => n1 (z ▸ q))
      rw [e]; omega
theorem wC_nd {S : SR} {w : WD} {xf : Int32 → List Int32} {ch : PL2} {σ μ : mS} (H : CO S w xf ch σ μ) : (wC w).Nodup := by
  have := (cX_nd H).1
  simp only [cX] at this
  exact List.Pairwise.imp (fun hne e => hne (congrArg Prod.fst e)) (List.pairwise_map.mp (List.nodup_cons.mp this).2)
theorem ME_res {S : SR} {K : Int32 → Int32 → Int32 → Prop} {q : Int} {w : WD} {xf : Int32 → List Int32} {c d a b kd p : Int32} {rest : PL2} {σ μ τ τm : mS} {ct : CT} (H : ME S K q w xf c d rest σ μ) (L : FL S w σ (mff μ) (sI μ 141) (sJ μ 142) (btO d) (sI μ 162 d) (sI μ 161 d) (xf c) (sF μ 154) ct) (hab : (a, b) ∈ wC w) (h0 : sI σ 323 a = 0) (hp : p = ct.2.2.2.1) (ho : sF σ 358 < 200) (fr : m_fr rsX σ τ) (frm : m_fr rsM μ τm) (k0 : 0 ≤ sI μ 166 b) (k1 : sI μ 166 b ≤ 200) (h159 : sI τm 159 b = 1)
    (x323 : ∀ x, 0 ≤ x → sI τ 323 x = if x = a then 1 else if x = c then 2 else sI σ 323 x) (x324 : ∀ x, 0 ≤ x → sI τ 324 x = if x = a then 0 else sI σ 324 x) (xo : ∀ k, 327 ≤ k → k ≤ 331 → ∀ x, 0 ≤ x → x ≠ a → sI τ k x = sI σ k x) (x327 : sI τ 327 a = c) (xk : (sI τ 328 a = 0 ∧ kd = 2) ∨ (sI τ 328 a = 1 ∧ kd = 3)) (x329 : sI τ 329 a = ct.1) (x330 : sI τ 330 a = ct.2.1) (x331 : sI τ 331 a = ct.2.2.1) (x339 : sF τ 339 = a) (x358 : sF τ 358 = sF σ 358 + 1)
    (m154 : sF τm 154 = sF μ 154 + 1 + sI μ 166 b) (m155 : sF τm 155 = sF μ 155 + 1) (m156 : ∀ x, 0 ≤ x → sI τm 156 x = if x = b then 1 else if x = d then 2 else sI μ 156 x) (mo : ∀ k, (159 ≤ k ∧ k ≤ 162) ∨ k = 164 ∨ k = 166 → ∀ x, 0 ≤ x → x ≠ b → sI τm k x = sI μ k x) (m160 : sI τm 160 b = d) (m161 : sI τm 161 b = p) (m162 : sI τm 162 b = sF μ 154 + 1) (m164 : sI τm 164 b = 0) (m166 : sI τm 166 b = 0) (m172 : sF τm 172 = b) (row : ∀ k j, 0 ≤ k → k < sF μ 154 → j < 10 → mff τm k j = mff μ k j) (r0 : mff τm (sF μ 154) 0 = kd) (r5 : mff τm (sF μ 154) 5 = p) (r6 : mff τm (sF μ 154) 6 = ct.2.2.2.2.1) (r7 : mff τm (sF μ 154) 7 = ct.2.2.2.2.2) (pil : ∀ i, 0 ≤ i → i < p → sI τm 141 i = sI μ 141 i ∧ sJ τm 142 i = sJ μ 142 i) : ME S K q w xf a b ((c, d) :: rest) τ τm := by
  have cl := ME_calls H
  have cc := ME_c H
  obtain ⟨⟨RR, h1⟩, Z, HH, X, C, Bc, h7, h8, ⟨o1, o2, o3, o4, o5⟩, h10, h10', h11⟩ := H
  have W := RR.1
  have mem := BC_mem Bc
  obtain ⟨ncx, pcx⟩ := cX_nd C
  have kb' := BC_kb Bc
  simp only at kb'
  have w6 := W.2.2.2.2.2 a b hab
  have st2 := BC_st2 Bc
  have pl := FL_pl L kb'.1 cl.2.1 kb'.2.2.1 kb'.2.2.2.2
  have pl2 := FL_pl2 L kb'.1 cl.2.1 kb'.2.2.1 kb'.2.2.2.2
  have plB := (FL_B L ⟨kb'.1, by lia, kb'.2.2.1, kb'.2.2.2.1⟩).1
  rw [← hp] at pl pl2 plB
  have cds' : cds w σ τ := cds_fr fr (rsX_f (by omega)) (rsX_f (by omega)) (rsX_f (by omega))
  have i : ∀ k, rsM k = false → ∀ m, sI τm k m = sI μ k m := fun k h m => mf_I frm h
  have fm : ∀ k, rsM k = false → sF τm k = sF μ k := fun k h => mf_F frm h
  -- the one that is resumed is none of those that run or pass
  have chn : ∀ e, e ∈ (c, d) :: rest → e.1 ≠ a ∧ e.2 ≠ b ∧ 0 ≤ e.1 ∧ 0 ≤ e.2 := fun e he => by
    have ne : e.1 ≠ a := fun z => by
      rcases List.mem_cons.mp he with y | y
      · rw [y] at z
        have z' : c = a := z
        have := h7.2.2.1
        rw [z', h0] at this; exact absurd this (by decide)
      · have := (st2 e y).1
        rw [z, h0] at this; exact absurd this (by decide)
    rcases mem e he with y | y
    · rw [y]; exact ⟨by show (0 : Int32) ≠ a; lia, by show (120 : Int32) ≠ b; lia, by decide, by decide⟩
    · have w6' := W.2.2.2.2.2 e.1 e.2 y.1
      exact ⟨ne, fun z => ne ((W.2.2.1 e.1 e.2 a b y.1 hab).mpr z), by lia, by lia⟩
  have nd0 : (c :: rest.map Prod.fst).Nodup := by simpa using h8
  have ca := chn (c, d) List.mem_cons_self
  simp only at ca
  -- among the others of the chain
  have rne : ∀ e, e ∈ rest → e.1 ≠ c ∧ e.2 ≠ d := fun e he => by
    have pc : e.1 ≠ c := fun r => (List.nodup_cons.mp nd0).1 (by rw [← r]; exact List.mem_map.mpr ⟨e, he, rfl⟩)
    refine ⟨pc, fun r => ?_⟩
    rcases mem e (List.mem_cons_of_mem _ he) with z | z
    · rcases mem (c, d) List.mem_cons_self with y | y
      · have := (Prod.mk.inj y).1
        rw [z] at pc; exact pc this.symm
      · have := W.2.2.2.2.2 c d y.1
        rw [z] at r
        have r' : (120 : Int32) = d := r
        lia
    · rcases mem (c, d) List.mem_cons_self with y | y
      · have := (Prod.mk.inj y).2
        have := W.2.2.2.2.2 e.1 e.2 z.1
        lia
      · exact pc ((W.2.2.1 e.1 e.2 c d z.1 y.1).mpr r)
  have i8 : (sF σ 358 + 1).toInt = (sF σ 358).toInt + 1 := tI_inc o2 (by lia)
  have i5 : (sF μ 155 + 1).toInt = (sF μ 155).toInt + 1 := tI_inc (by rw [← o1]; exact o2) (by lia)
  have i4 : (sF μ 154 + 1 + sI μ 166 b).toInt = (sF μ 154).toInt + 1 + (sI μ 166 b).toInt := by
    rw [tI_ad (by lia) (by lia) k0 (by lia), tI_inc (by lia) (by lia)]
  have ks : kSum w τm + (sI μ 166 b).toInt = kSum w μ := by
    have nd := wC_nd C
    have := kS_one (f := fun x => (sI μ 166 x.2).toInt) (g := fun x => (sI τm 166 x.2).toInt) (p := (a, b)) nd hab (fun x hx ne => by
      have w6' := W.2.2.2.2.2 x.1 x.2 hx
      have : x.2 ≠ b := fun z => ne (by
        have := (W.2.2.1 x.1 x.2 a b hx hab).mpr z
        exact Prod.ext this z)
      rw [mo 166 (.inr (.inr rfl)) x.2 w6'.2.1 this])
    simp only [m166] at this
    have z0 : (0 : Int32).toInt = 0 := rfl
    simp only [kSum]
    omega
  refine ⟨⟨by rw [fQ_e (fm 171 (rsM_f (by omega))) (mf_I frm (rsM_f (by omega)))]; exact RH_fr RR fr frm (fun k a b => rsX_f (by omega)) (fun k a b _ _ _ _ _ _ => rsM_f (by omega)), h1⟩, ZS_fr Z fr (rsX_f (by omega)), HO_fr HH wle_rfl fr frm (fun k hk => rsX_f (by omega)) (fun k a b => rsM_f (by omega)) (fun a b _ => xL_fr fr (fun k a b => rsX_f (by omega))) (fun k _ => by rw [frm.2.2.1 44 (rsM_f (by omega))]), XF_w X fr (rsX_f (by omega)) (rsX_f (by omega)) (rsX_f (by omega)) (fun k a b z => rsX_f (by omega)), ⟨fun a' b' hab' => ?_, fun e e0 e1 he => ?_, ?_, ?_, ?_, ?_⟩, ⟨hab, ⟨?_, h159, m166, m164⟩, ?_, ?_, ?_, ⟨x327, m160⟩, ⟨?_, ?_⟩, ?_, ?_, BC_gen cds' Bc (fun e he => ?_) (fun e he => ?_) (fun k j k0 k1' hj => ?_) (fun j j0 j1 => ?_)⟩, ⟨x339, m172, ?_, ?_⟩, ?_, ⟨?_, ?_, ?_, ?_, ?_⟩, ?_, ?_, ?_⟩
  · obtain ⟨a1, a2, a3, a4, a5⟩ := C.1 a' b' hab'
    have w6' := W.2.2.2.2.2 a' b' hab'
    have q1 : a' = a ↔ b' = b := W.2.2.1 a' b' a b hab' hab
    have q2 : a' = c ↔ b' = d := by
      rcases mem (c, d) List.mem_cons_self with y | y
      · obtain ⟨y1, y2⟩ := Prod.mk.inj y
        exact ⟨fun r => by lia, fun r => by lia⟩
      · exact W.2.2.1 a' b' c d hab' y.1
    have t323 := x323 a' (by lia)
    have t156 := m156 b' w6'.2.1
    refine ⟨a1, ?_, ?_, ?_, ?_⟩
    · rw [t323, t156]
      by_cases r1 : a' = a
      · rw [if_pos r1, if_pos (q1.mp r1)]
      · rw [if_neg r1, if_neg (fun z => r1 (q1.mpr z))]
        by_cases r2 : a' = c
        · rw [if_pos r2, if_pos (q2.mp r2)]
        · rw [if_neg r2, if_neg (fun z => r2 (q2.mpr z))]; exact a2
    · rw [mf_J fr (rsX_f (by omega)), i 157 (rsM_f (by omega))]; exact a3
    · rw [i 170 (rsM_f (by omega))]; exact a4
    · by_cases r1 : a' = a
      · left
        rw [r1, q1.mp r1]; exact List.mem_cons_self
      · rcases a5 with y | y
        · exact .inl (List.mem_cons_of_mem _ y)
        · right
          have nb : b' ≠ b := fun z => r1 (q1.mpr z)
          have nc : a' ≠ c := fun z => by
            have s1 : sI σ 323 c = 1 := h7.2.2.1
            rw [z] at y
            rcases y with v | v | v
            · exact absurd (v.1.symm.trans s1) (by decide)
            · exact absurd (v.1.symm.trans s1) (by decide)
            · exact absurd (v.1.symm.trans s1) (by decide)
          have nd' : b' ≠ d := fun z => nc (q2.mpr z)
          refine cKd_cg y wle_rfl rfl (fun g _ => xcs_rs fr) cds' ⟨fun k ka kb kc => ?_, mf_J fr (rsX_f (by omega)), mf_J fr (rsX_f (by omega))⟩ ⟨fun k ka kb => ?_, fun k j _ _ _ => ?_, fun m _ _ => ⟨?_, ?_⟩⟩
          · by_cases z3 : k = 323
            · rw [z3, t323, if_neg r1, if_neg nc]
            · by_cases z4 : k = 324
              · rw [z4, x324 a' (by lia), if_neg r1]
              · by_cases z5 : 327 ≤ k ∧ k ≤ 331
                · exact xo k z5.1 z5.2 a' (by lia) r1
                · exact mf_I fr (rsX_f (by omega))
          · by_cases z3 : k = 156
            · rw [z3, t156, if_neg nb, if_neg nd']
            · by_cases z5 : (159 ≤ k ∧ k ≤ 162) ∨ k = 164 ∨ k = 166
              · exact mo k z5 b' w6'.2.1 nb
              · exact i k (rsM_f (by omega)) b'
          · simp only [kff]; rw [i 176 (rsM_f (by omega)), i 165 (rsM_f (by omega))]
          · simp only [kpt]; rw [i 173 (rsM_f (by omega)), i 163 (rsM_f (by omega))]
          · simp only [kpv]; rw [mf_J frm (rsM_f (by omega)), i 163 (rsM_f (by omega))]
  · rw [i 170 (rsM_f (by omega))]; exact C.2.1 e e0 e1 he
  · obtain ⟨fcs, g⟩ := C.2.2.1
    refine ⟨fcs, ?_⟩
    rw [mf_F fr (rsX_f (by omega))]
    exact ⟨seg_congr g.1 (fun x _ => mf_I fr (rsX_f (by omega))), g.2⟩
  · rw [mf_F fr (rsX_f (by omega)), fm 171 (rsM_f (by omega))]; exact C.2.2.2.1
  · rw [mf_J fr (rsX_f (by omega)), i 157 (rsM_f (by omega))]; exact C.2.2.2.2.1
  · refine KL_sub C.2.2.2.2.2 (fun e he => ?_) (fm _ (rsM_f (by omega))) (fm _ (rsM_f (by omega)))
    obtain ⟨e0, e1, e2, e3, e4⟩ := he
    have t := m156 e e0
    rw [t] at e3
    by_cases z1 : e = b
    · rw [if_pos z1] at e3; exact absurd e3 (by decide)
    · rw [if_neg z1] at e3
      by_cases z2 : e = d
      · rw [if_pos z2] at e3; exact absurd e3 (by decide)
      · rw [if_neg z2] at e3
        rw [i 170 (rsM_f (by omega))] at e2
        rw [mo 159 (.inl (by omega)) e e0 z1] at e4
        exact ⟨⟨e0, e1, e2, e3, e4⟩, i _ (rsM_f (by omega)) _, mo 164 (.inr (.inl rfl)) e e0 z1, i _ (rsM_f (by omega)) _, mo 166 (.inr (.inr rfl)) e e0 z1⟩
  · rw [x324 a (by lia), if_pos rfl]
  · rw [m162]; exact ⟨by lia, by lia⟩
  · have e1 : sI τm 162 b - 1 = sF μ 154 := by rw [m162]; lia
    rw [e1]
    exact xk.imp (fun h => ⟨h.1, by rw [← h.2]; exact r0⟩) (fun h => ⟨h.1, by rw [← h.2]; exact r0⟩)
  · have e1 : sI τm 162 b - 1 = sF μ 154 := by rw [m162]; lia
    rw [e1, r5, m161]
  · show sI τ 323 c = 2
    rw [x323 c ca.2.2.1, if_neg ca.1, if_pos rfl]
  · show sI τm 156 d = 2
    rw [m156 d ca.2.2.2, if_neg ca.2.1, if_pos rfl]
  · have e1 : sI τm 162 b - 1 = sF μ 154 := by rw [m162]; lia
    rw [e1, m161]
    exact ⟨pl.1, by lia⟩
  · have e1 : sI τm 162 b - 1 = sF μ 154 := by rw [m162]; lia
    have e162 : sI τm 162 d = sI μ 162 d := mo 162 (.inl (by omega)) d ca.2.2.2 ca.2.1
    have e161 : sI τm 161 d = sI μ 161 d := mo 161 (.inl (by omega)) d ca.2.2.2 ca.2.1
    show FL S w τ (mff τm) (sI τm 141) (sJ τm 142) (if d = 120 then 5 else 4) (sI τm 162 d) (sI τm 161 d) (xf c) (sI τm 162 b - 1) (sI τ 329 a, sI τ 330 a, sI τ 331 a, mff τm (sI τm 162 b - 1) 5, mff τm (sI τm 162 b - 1) 6, mff τm (sI τm 162 b - 1) 7)
    rw [e1, r5, r6, r7, x329, x330, x331, e162, e161, hp]
    exact FL_cg L ⟨kb'.1, by lia, kb'.2.2.1, kb'.2.2.2.1⟩ wle_rfl (fun g _ => xcs_rs fr) cds' (fun k j k0' k1' hj => row k j (by lia) k1' hj) (fun m m0 m1 => pil m (by lia) (by rw [hp]; exact m1))
  · obtain ⟨n1, n2⟩ := rne e he
    obtain ⟨n3, n4, n5, n6⟩ := chn e (List.mem_cons_of_mem _ he)
    refine ⟨rfl, fun g _ => xcs_rs fr, ?_, ?_⟩
    · rw [x323 _ n5, if_neg n3, if_neg n1]
    · rw [m156 _ n6, if_neg n4, if_neg n2]
  · obtain ⟨n3, n4, n5, n6⟩ := chn e he
    refine ⟨fun k hk => ?_, fun k hk => mo k hk e.2 n6 n4⟩
    rcases hk with z | z
    · rw [z, x324 _ n5, if_neg n3]
    · exact xo k z.1 z.2 e.1 n5 n3
  · have : k < sI μ 162 d := k1'
    exact row k j k0 (by lia) hj
  · have : j < sI μ 161 d := j1
    exact pil j j0 (by lia)
  · rw [x323 a (by lia), if_pos rfl]
  · rw [m156 b w6.2.1, if_pos rfl]
  · show (a :: c :: rest.map Prod.fst).Nodup
    refine List.nodup_cons.mpr ⟨fun z => ?_, nd0⟩
    have : a ∈ ((c, d) :: rest).map Prod.fst := by simpa using z
    obtain ⟨e, e1, e2⟩ := List.mem_map.mp this
    exact (chn e e1).1 e2
  · rw [x358, m155, o1]
  · rw [x358]; lia
  · rw [x358]; lia
  · rw [x358, i8]
    simp only [List.length_cons]
    omega
  · rw [m155, m154, i5, i4]; omega
  · rw [mf_F fr (rsX_f (by omega)), fm 180 (rsM_f (by omega))]; exact h10
  · rw [mf_F fr (rsX_f (by omega))]; exact h10'
  · rw [fm 178 (rsM_f (by omega))]; exact h11
