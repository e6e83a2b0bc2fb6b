set_option maxRecDepth 20000
section
variable {ρ : Nat → Nat} {d : Nat} {Q : QT} {Γ Γ' Γ1 Γ2 : GH} {h h' h1 h2 H : ah} {C ho N M z s t o n c r i j k p a T cd fn ck : Nat} {g g' : HG} {S S' S1 S2 : SS} {X X' X1 X2 : X3} {Y Y' Y1 Y2 : Y3} {ws ws' hw : List (List Int)} {x y ty v fl kz ks : Int} {h0 : ah} {L : List Nat} {Pp : List (Nat × Nat)}
/-- fields of C that the relation goes by -/
def LBA : List Nat := LKC ++ fhcm ++ LHU ++ LKN ++ [f_Host_members, f_Host_members + 1] ++ LZA ++ LCF ++ [f_Host_types, f_Host_types + 1] ++ [f_Words_most, f_Words_mostBytes, f_Words_many, f_Words_used, f_Words_bytes, f_Words_from, f_Words_size, f_Words_next, f_Words_heads, f_Words_most + 1, f_Words_mostBytes + 1, f_Words_many + 1, f_Words_used + 1, f_Words_bytes + 1, f_Words_from + 1, f_Words_size + 1, f_Words_next + 1, f_Words_heads + 1] ++ [f_Machine_sites, f_Machine_sites + 1, f_Machine_descriptors, f_Machine_descriptors + 1, f_Machine_literalText]
/-- rows of T that the relation goes by -/
def LSN : List Nat := LSA ++ LPO ++ [f_Md_staticType, f_Md_staticValue] ++ LSS ++ [f_Md_wrong, f_Md_asked, f_Md_names, f_Md_nameSize, f_Md_nameSigns] ++ LCH3 ++ [f_Md_units, f_Md_unitFunction, f_Md_instructions, f_Md_descriptors, f_Md_sourceTexts, f_lay]
/-- the base changes beside, T's rows too: all stays -/
theorem ALL.mv (A : ALL ρ Γ h C ho X Y S g N M hw ws) (W : HWF g N M) (fr : Fr L Pp z s h h') (dj : DJ LBA L Pp) (p0 : ∀ y, (0, y) ∉ Pp) (e : EXS LSN S S') : ALL ρ Γ h' C ho X Y S' g N M hw ws ∧ GRO Γ Γ h h' C S S' ∧ BND h C S h' S' z s ∧ lyc h' ho N = lyc h ho N := by
  obtain ⟨HC, E, MS⟩ := A
  have es := fun {K : List Nat} (q : K.all (fun f => LSN.elem f) = true) => show EXS K S S' from fun f hf i => e f (by simpa using List.all_eq_true.mp q f (by simpa using hf)) i
  have dd := fun {K : List Nat} (q : K.all (fun f => LBA.elem f) = true) => dj.sb (B := K) q
  have G := HC.1.1
  have F := HC.1.2
  have gz := G.1
  obtain ⟨E0, ⟨NM, SN⟩, SI, EV, LK⟩ := E
  have ij := G.2.1
  have HX := E0.1.1.1
  have nm : S' f_Md_names 0 = S f_Md_names 0 := es (K := [f_Md_names]) (by decide +kernel) _ (by decide) _
  obtain ⟨⟨c1, -⟩, g1, bd⟩ := HC.fzz (X' := X) (Y' := Y) fr (dd (by decide +kernel)) p0 (es (by decide +kernel)) (Int.le_of_eq nm.symm) EXX.rf (fun _ _ _ _ => rfl)
  replace bd := bd (es (by decide +kernel))
  have HX2 : HCX ρ h' ho g N M hw := HX.fr fr (dd (by decide +kernel)) p0
  obtain ⟨U2, ly⟩ := E0.1.1.mvp ij g1 fr HX2 (dd (by decide +kernel)) p0 (es (by decide +kernel))
  have M2 := E0.1.2.mvp E0.1.1 W ij fr (dd (by decide +kernel)) p0
  have K : EKP h C ho S N M h' S' := EKP.gro HX G g1 bd.2.2.2 fr (dd (by decide +kernel)) p0
  have EX : EXT ρ Γ h' C ho X Y S' g N M hw ws := by
    refine ⟨E0.mv U2 M2 fr p0 bd.2.2.2.1 E0.2.1 (fun i hi => ?_) EXX.rf E0.2.2.2.2.2.2.2.1 (es (K := [f_Md_wrong]) (by decide +kernel) _ (by decide) _), ⟨NM.fr fr (dd (by decide +kernel)) p0 (es (by decide +kernel)), SN.ex (es (by decide +kernel))⟩, SI.ext ij F HC.hz57 K fr (dd (by decide +kernel)) p0 (es (by decide +kernel)) rfl, EV.chg HC.bef bd.2.2.2.1 (es (by decide +kernel)), LK.mv HX ij fr (dd (by decide +kernel)) p0 (es (by decide +kernel)) EXX.rf (fun b => rfl)⟩
    rw [es (K := [f_Md_asked]) (by decide +kernel) _ (by decide)]
    exact E0.2.2.2.2.2.1 i hi
  refine ⟨⟨c1, EX, ?_⟩, g1, bd, ly⟩
  -- literals, units
  obtain ⟨h1, h2, h3, h4, h5, lits, ⟨by_, wf, wz, wn', wh, Wd⟩, l2, l3, l4, l5⟩ := MS
  have nk := fun {f x : Nat} (q : LBA.elem f = true) => dj.w (x := x) q
  have ar := fun {f x y : Nat} (ow : own f) (hx : x < hz h) (e : hR h f x = y) (h0 : y ≠ 0) (n1 : LBA.elem f = true) (n2 : LBA.elem (f + 1) = true) => fr.ar ij ow hx e h0 (fun c => c.elim (nk n1) (nk n2)) (p0 _)
  have s7 := ar (f := f_Machine_sites) (x := C + 32) (by unfold own; decide) (by omega) F.2.1.2.2.2.2.2.2.2.2.1 (by omega) (by decide +kernel) (by decide +kernel)
  have s8 := ar (f := f_Machine_descriptors) (x := C + 32) (by unfold own; decide) (by omega) F.2.1.2.2.2.2.2.2.2.2.2.1 (by omega) (by decide +kernel) (by decide +kernel)
  have W' : WD h' (C + 40) 4000 65536 lits by_ wf wz wn' wh := Wd.frm fr (fun f hf c => by
    have q : [f_Words_most, f_Words_mostBytes, f_Words_many, f_Words_used, f_Words_bytes, f_Words_from, f_Words_size, f_Words_next, f_Words_heads].all (fun f => LBA.elem f && LBA.elem (f + 1)) = true := by decide +kernel
    have q := List.all_eq_true.mp q f hf
    simp only [Bool.and_eq_true] at q
    exact c.elim (nk q.1) (nk q.2)) ⟨p0 _, p0 _, p0 _, p0 _, p0 _⟩
  refine ⟨fun b hb => ?_, fun i hi => ?_, h3.mv g1 (es (by decide +kernel)) EXX.rf, by rw [es (K := [f_Md_instructions]) (by decide +kernel) _ (by decide)]; exact h4, h5.mv (es (by decide +kernel)) s7.2.2 ⟨s8.1, s8.2.2⟩, lits, ⟨_, _, _, _, _, W'⟩, by rw [es (K := [f_Md_sourceTexts]) (by decide +kernel) _ (by decide)]; exact l2, l3, l4, fun b hb => (l5 b hb).src g1.2.2.2.2.2.2 (by omega)⟩
  · rw [es (K := [f_Md_sourceTexts]) (by decide +kernel) _ (by decide)] at hb
    obtain ⟨a1, a2⟩ := h1 b hb
    have w := fr.R (x := C + 32) (f := f_Machine_literalText) (by omega) (by decide) (nk (by decide +kernel))
    have zz := ij.1 f_Machine_literalText (C + 32) (by omega) (by unfold own; decide)
    rw [a1, g1.2.2.2.2.2.1 b (Or.inl hb), w]
    refine ⟨rfl, ?_⟩
    have kk : hK h (hR h f_Machine_literalText (C + 32)) < 100 := by
      rw [(G.2.2.2.1 (f_Machine_literalText, 32, 1) (by decide)).2]; decide
    rw [fr.la zz kk]
    exact a2
  · rw [← h2 i hi]
    exact (fr.ar0 (y := C + 97) (by omega) (by omega) (p0 _) F.2.2.2.2.2.2.2.2.2.1.2.2).2.2 i
/-- an exception was made, T's rows change beside -/
theorem ALL.exc (A : ALL ρ Γ h C ho X Y S g N M hw ws) (W : HWF g N M) (o : OFF L S S') (q : LSN.all (fun f => !(L.elem f)) = true) : ALL ρ Γ (hn h k 6 0) C ho X Y S' g N M hw ws ∧ GRO Γ Γ h (hn h k 6 0) C S S' ∧ BND h C S (hn h k 6 0) S' 1 6 ∧ lyc (hn h k 6 0) ho N = lyc h ho N :=
  A.mv W (L := []) (Pp := []) (z := 1) (s := 6) (by have := (Fr.r0 (L := []) (P := []) (h := h)).new (k := k) (n := 6) (m := 0); simpa using this) (by unfold DJ; decide +kernel) (fun y c => by cases c) (o.ex q)
theorem ALL.row (A : ALL ρ Γ h C ho X Y S g N M hw ws) (W : HWF g N M) (o : OFF L S S') (q : LSN.all (fun f => !(L.elem f)) = true) : ALL ρ Γ h C ho X Y S' g N M hw ws ∧ GRO Γ Γ h h C S S' ∧ BND h C S h S' 0 0 :=
  have := A.mv W (L := []) (Pp := []) (z := 0) (s := 0) (Fr.r0 (L := []) (P := []) (h := h)) (by unfold DJ; decide +kernel) (fun y c => by cases c) (o.ex q)
  ⟨this.1, this.2.1, this.2.2.1⟩
theorem thQ_off {w : Int} : OFF [f_Md_thrown] S (thQ S w) := fun f i hf => u2_f (by rintro rfl; exact absurd hf (by decide))
theorem thZ_off : OFF [f_Md_thrown] S (thZ S) := fun f i hf => u2_f (by rintro rfl; exact absurd hf (by decide))
theorem ctS_off : OFF [f_Md_thrown, f_Md_counted] S (ctS S N M) := fun f i hf => ctS_o (by rintro rfl; exact absurd hf (by decide)) (by rintro rfl; exact absurd hf (by decide))
end
