/-! LAYER 3AU: the model's joining -/
noncomputable def mpJ (x2 x3 : Int32) (h4 : hH) : Option (Unit × hH) :=
      lz (A := Int32) ((102 : Int32) * x3) fun v5 =>
      lz (A := Int32) (v5 + (102 : Int32)) fun v6 =>
      gd (vp_in x3 6) <|
      lz (A := Int32) (rdI h4 236 (Int32.toNatClampNeg x3)) fun v7 =>
      gd (vp_in (x3 + (1 : Int32)) 6) <|
      lz (A := Int32) (rdI h4 236 (Int32.toNatClampNeg (x3 + (1 : Int32)))) fun v9 =>
      cO (
        if (100 : Int32) < (v7 + v9) then (
          some true
        ) else (
          gd (vp_in x3 6 ∧ vp_in (x3 + (1 : Int32)) 6) <|
          if ((rdI h4 237 (Int32.toNatClampNeg x3)) + (rdI h4 237 (Int32.toNatClampNeg (x3 + (1 : Int32))))) ≤ (20 : Int32) then (
            some false
          ) else (
            some true
          )
        )
      ) (
        bS (f_Mo_failOutside (12 : Int32) h4) fun _ h5 =>
        some ((), h5)
      ) (
        gd (vp_in ((4 : Int32) * x2) 32) <|
        lz (A := Int64) (Int32.toInt64 (rdI h4 207 (Int32.toNatClampNeg ((4 : Int32) * x2)))) fun v17 =>
        gd (vp_in (((4 : Int32) * x2) + (1 : Int32)) 32) <|
        lz (A := Int64) (Int32.toInt64 (rdI h4 207 (Int32.toNatClampNeg (((4 : Int32) * x2) + (1 : Int32))))) fun v19 =>
        gd (vp_in (((4 : Int32) * x2) + (2 : Int32)) 32) <|
        lz (A := Int64) (Int32.toInt64 (rdI h4 207 (Int32.toNatClampNeg (((4 : Int32) * x2) + (2 : Int32))))) fun v21 =>
        gd (vp_in (((4 : Int32) * x2) + (3 : Int32)) 32) <|
        lz (A := Int64) (Int32.toInt64 (rdI h4 207 (Int32.toNatClampNeg (((4 : Int32) * x2) + (3 : Int32))))) fun v23 =>
        bP (A := hH) (
          wh (A := (Int32 × hH)) (B := hH) (mL1 v5 v6 v7 v9 v17 v19 v21 v23) ((0 : Int32), h4)
        ) fun p26 =>
        gd (vp_in x2 8) <|
        bE (P := (Int32 × Int32)) (X := (Unit × hH)) (
          if ((rdI p26 203 (Int32.toNatClampNeg x2)) &&& (2 : Int32)) = 0 then (
            gd (vp_in x2 8) <|
            cO (
              if (rdI p26 205 (Int32.toNatClampNeg x2)) < 0 then (
                some true
              ) else (
                gd (vp_in x2 8) <|
                cO (
                  if v7 ≤ (rdI p26 205 (Int32.toNatClampNeg x2)) then (
                    some true
                  ) else (
                    gd (vp_in x2 8) <|
                    cO (
                      if (rdI p26 206 (Int32.toNatClampNeg x2)) < 0 then (
                        some true
                      ) else (
                        gd (vp_in x2 8) <|
                        if (rdI p26 206 (Int32.toNatClampNeg x2)) < v9 then (
                          some false
                        ) else (
                          some true
                        )
                      )
                    ) (
                      some true
                    ) (
                      some false
                    )
                  )
                ) (
                  some true
                ) (
                  some false
                )
              )
            ) (
              bS (f_Mo_failOutside (5 : Int32) p26) fun _ h9 =>
              some (.inr ((), h9))
            ) (
              gd (vp_in x2 8 ∧ vp_in (v5 + (rdI p26 205 (Int32.toNatClampNeg x2))) 612 ∧ vp_in ((v5 + v7) + (rdI p26 206 (Int32.toNatClampNeg x2))) 612) <|
              lz (A := Int32) ((rdI p26 238 (Int32.toNatClampNeg (v5 + (rdI p26 205 (Int32.toNatClampNeg x2))))) - (rdI p26 238 (Int32.toNatClampNeg ((v5 + v7) + (rdI p26 206 (Int32.toNatClampNeg x2)))))) fun v77 =>
              gd (vp_in x2 8 ∧ vp_in (v5 + (rdI p26 205 (Int32.toNatClampNeg x2))) 612 ∧ vp_in ((v5 + v7) + (rdI p26 206 (Int32.toNatClampNeg x2))) 612) <|
              lz (A := Int32) ((rdI p26 239 (Int32.toNatClampNeg (v5 + (rdI p26 205 (Int32.toNatClampNeg x2))))) - (rdI p26 239 (Int32.toNatClampNeg ((v5 + v7) + (rdI p26 206 (Int32.toNatClampNeg x2)))))) fun v79 =>
              some (.inl (v77, v79))
            )
          ) else (
            gd (vp_in x2 8) <|
            bP (f_Mo_scaled (Int32.toInt64 (rdI p26 205 (Int32.toNatClampNeg x2))) p26) fun a82 =>
            gd (vp_in x2 8) <|
            bP (f_Mo_scaled (Int32.toInt64 (rdI p26 206 (Int32.toNatClampNeg x2))) p26) fun a84 =>
            gd (vp_in x2 8) <|
            bP (A := Int32) (
              if ((rdI p26 203 (Int32.toNatClampNeg x2)) &&& (4 : Int32)) = 0 then (
                some a82
              ) else (
                bP (f_Mo_toPixel (Int32.toInt64 a82)) fun a87 =>
                some a87
              )
            ) fun p86 =>
            gd (vp_in x2 8) <|
            bP (A := Int32) (
              if ((rdI p26 203 (Int32.toNatClampNeg x2)) &&& (4 : Int32)) = 0 then (
                some a84
              ) else (
                bP (f_Mo_toPixel (Int32.toInt64 a84)) fun a91 =>
                some a91
              )
            ) fun p90 =>
            some (.inl (p86, p90))
          )
        ) fun p39 =>
        lz (A := Int32) (v5 + v7) fun v94 =>
        bP (A := hH) (
          wh (A := (Int32 × hH)) (B := hH) (mL2 v5 v7 v9 p39.1 p39.2) (v94, p26)
        ) fun p96 =>
        bP (A := hH) (
          wh (A := (Int32 × hH)) (B := hH) (mL3 x3 v7) ((0 : Int32), p96)
        ) fun p102 =>
        gd (vp_in x3 6) <|
        lz (wrI p102 236 (Int32.toNatClampNeg x3) ((rdI p102 236 (Int32.toNatClampNeg x3)) + v9)) fun h13 =>
        gd (vp_in x3 6 ∧ vp_in (x3 + (1 : Int32)) 6) <|
        lz (wrI h13 237 (Int32.toNatClampNeg x3) ((rdI h13 237 (Int32.toNatClampNeg x3)) + (rdI h13 237 (Int32.toNatClampNeg (x3 + (1 : Int32)))))) fun h14 =>
        gd (vp_in x2 8) <|
        if ((rdI h14 203 (Int32.toNatClampNeg x2)) &&& (512 : Int32)) = 0 then (
          some ((), h14)
        ) else (
          bP (A := hH) (
            wh (A := (Int32 × hH)) (B := hH) (mL4 x3) ((0 : Int32), h14)
          ) fun p111 =>
          some ((), p111)
        )
      )
theorem makePart_eq0 {rec : Int32 → Int32 → hH → Option (Unit × hH)} {x1 x2 x3 : Int32} {h : hH} : f_Mo_makePart rec x1 x2 x3 h = (
  if (rdI h 192 125) = (60 : Int32) then (
    bS (f_Mo_failOutside (12 : Int32) h) fun _ h16 =>
    some ((), h16)
  ) else (
    lz (wrI h 192 125 ((rdI h 192 125) + (1 : Int32))) fun h1 =>
    bS (f_Mo_isGlyph x1 h1) fun a1 h2 =>
    gd (vp_in x2 8) <|
    lz (A := Int32) (rdI h2 204 (Int32.toNatClampNeg x2)) fun v2 =>
    bS (rec v2 (x3 + (1 : Int32)) h2) fun _ h3 =>
    bS (f_Mo_isGlyph x1 h3) fun a4 h4 =>
    if (rdI h4 192 59) ≤ 0 then (mpJ x2 x3 h4
    ) else (
      some ((), h4)
    )
  )) := rfl
