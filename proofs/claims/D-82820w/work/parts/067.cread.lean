/-! C: all classes -/
set_option maxRecDepth 20000
section
variable {ρ : Nat → Nat} {d : Nat} {h h' h0 : ah} {F : Int → ah → Prop} {FR : Nat → ah → Prop} {G : ah → Prop} {E : Nat → ah → Prop} {Q : QT} {C ho a : Nat} {tp : List Int} {t t' : TKN} {g : HG} {n m c : Nat} {ws : List (List Int)} {so st ty va iF : Int} {ps nm : List Int}
theorem c_isA {r : Nat} {w : List Int} (K : CK h C tp 1 t) (s : STR h r w) (hd : 10 ≤ d) (q1 : t.2.1 = 1 → tkB tp t = w → F 1 h) (q0 : ¬ (t.2.1 = 1 ∧ tkB tp t = w) → F 0 h) : wpB PGm ρ d m_Scanner_is 0 [(0, vR (C + 3)), (1, vR r)] [] h (cI F E) := by
  have bt : byt (hA h (C + 1)) t.1 t.2.2.1 = tkB tp t := by
    refine leq (by rw [tkB, byt_len, byt_len]) (fun i hi => ?_)
    rw [byt_len] at hi
    rw [byt_get hi, tkB, byt_get hi]
    exact K.2.1 _ (by have := K.2.2.2.2.2.2.2.1; omega)
  exact c_isw K.1 K.2.2.2.1 K.2.2.2.2.2.2.1 K.2.2.2.2.2.2.2.1 s hd (fun e x => q1 e (by rw [← bt]; exact x)) (fun x => q0 fun y => x ⟨y.1, by rw [bt]; exact y.2⟩)
theorem c_all (hd : 10 ≤ d) : ∀ f g n m ws t h, tp.length - t.1 < f → RC ρ h0 h C ho tp g n m ws t → gOK g n m →
    (∀ h' g' n' m' t' ws', rdAll tp f g n m t = Sum.inr (g', n', m') → RC ρ h0 h' C ho tp g' n' m' ws' t' → gOK g' n' m' → G h') →
    (∀ h' w p, rdAll tp f g n m t = Sum.inl (w, p) → FQ tp h0 h' ho → hI h' f_Fault_told (C + 2) = w + 16 * (p : Int) → E (C + 2) h') →
    wpB PGm ρ (d + 7) m_Host_read 0 [(0, vR ho), (1, vR (C + 3))] [] h (cV G E) := by
  intro f
  induction f with
  | zero => intro g n m ws t h hm; omega
  | succ f ih =>
    intro g n m ws t h hmm H ok q1 q2
    obtain ⟨a1, k1, lho, hi⟩ := H.hc
    obtain ⟨⟨by_, fr, sz, nx0, H1⟩, K, S, Hr, fx, h6, h6', hwi, hz1, hs1⟩ := id H
    have kk := K.2.2.2.1.1
    have go : ∀ iF : Int, (iF = 0 ∨ iF = 1) → t.2.1 = 1 → (tkB tp t = wIfc ∨ tkB tp t = wCls) → iF = (if tkB tp t = wIfc then 1 else 0) → wpB PGm ρ (d + 7) m_Host_read 32 [(0, vR ho), (1, vR (C + 3)), (2, vI iF)] [] h (cV G E) := by
      intro iF hif e1 hw ei
      have pos := tkB_len K e1
      have eq0 : rdAll tp (f + 1) g n m t = match rdCls tp g n m iF (nx tp 1 t) with
        | Sum.inl e => Sum.inl e
        | Sum.inr (g', m', t') => rdAll tp f g' (n + 1) m' t' := by
        rw [rdAll, if_neg (by rw [e1]; decide), if_neg (fun x => x ⟨e1, hw⟩), ← ei]
        rfl
      refine b_Host_read_32 ⟨k1, c_nxf K (fun h2 f2 n2 b2 K2 => ?_) (fun h2 f2 n2 b2 e2 => ⟨kF K f2, q2 h2 1 _ (by rw [eq0, rdCls, if_pos (by rw [b2]; decide)]) (H.fx f2) e2⟩)⟩
      have R2 := H.nxt f2 n2 K2
      have le2 := nxT_le K n2
      refine ⟨R2.hc.1, c_cls R2 ok hif hd (by have := hwi.2; omega) (fun h3 g3 m3 t3 ws3 e3 R3 ok3 lt3 => ?_) (fun h3 w p e3 fx3 told => ⟨H.ke fx3, q2 h3 w p ?_ fx3 told⟩)⟩
      · rw [e3] at eq0
        exact ih g3 (n + 1) m3 ws3 t3 h3 (by omega) R3 ok3 (fun h' g' n' m' t' ws' e => q1 h' g' n' m' t' ws' (eq0.trans e)) (fun h' w p e => q2 h' w p (eq0.trans e))
      · rcases e3 with e3 | ⟨r, t3, e3, b3, ew, ep⟩
        · rw [eq0, e3]
        · rw [eq0, e3]
          cases f with
          | zero => omega
          | succ f =>
            show rdAll tp (f + 1) r (n + 1) t3.1 t3.2 = _
            rw [rdAll, if_neg (by rw [b3]; decide), if_pos (by rw [b3]; intro x; exact absurd x.1 (by decide)), ew, ep]
    refine b_Host_read_0 ⟨k1, fun z => ?_, fun z => ?_⟩
    · rw [kk] at z
      exact q1 h g n m t ws (by rw [rdAll, if_pos z]) H ok
    · rw [kk] at z
      refine c_isA K S.2.2.1 (by omega) (fun e1 e2 => ⟨fun _ => go 1 (Or.inr rfl) e1 (Or.inl e2) (by rw [if_pos (show tkB tp t = wIfc from e2)]), fun y => absurd y (by decide)⟩) (fun n1 => ⟨fun y => absurd rfl y, fun _ => ⟨k1, c_isA K S.2.1 (by omega) (fun e1 e2 => ⟨fun _ => go 0 (Or.inl rfl) e1 (Or.inr e2) (by rw [if_neg (show ¬ tkB tp t = wIfc from fun x => n1 ⟨e1, x⟩)]), fun y => absurd y (by decide)⟩) (fun n2 => ⟨fun y => absurd rfl y, fun _ => ⟨k1, c_fl K (by omega) (fun h' x y => ⟨kF K x, q2 h' 1 _ (by rw [rdAll, if_neg z, if_pos (fun w => w.2.elim (fun e => n1 ⟨w.1, e⟩) (fun e => n2 ⟨w.1, e⟩))]) (H.fx x) y⟩)⟩⟩)⟩⟩)
end
