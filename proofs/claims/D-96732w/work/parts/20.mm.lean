set_option maxRecDepth 100000
/-! words of the calls -/
theorem hG_m_newPost : GoodIn lw_all (wsV "NineKeysRoundModel" 127 yX2_newPost.cls yX2_newPost (ws_ yX2_newPost cX2_newPost 4 (some .int))) := lw_V q1804 q1806 qs58 q115 q1807
theorem hy_m_newPost : yX2_newPost.cls ≠ "java/lang/invoke/MethodHandle" ∧ yX2_newPost.cls ≠ "java/lang/invoke/VarHandle" ∧ (parseMethodDescriptor yX2_newPost.desc).map (fun d => d.parameters.length) = some 3 := ⟨by decide, by decide, by decide +kernel⟩
theorem hG_m_within : GoodIn lw_all (va_wsS "NineKeysRoundModel" 123 yX2_within (ws_ yX2_within cX2_within 3 (some .boolean))) := lw_S q1815 q1816 q115 q1817
theorem hy_m_within : yX2_within.cls ≠ "java/lang/invoke/MethodHandle" ∧ yX2_within.cls ≠ "java/lang/invoke/VarHandle" ∧ (parseMethodDescriptor yX2_within.desc).map (fun d => d.parameters.length) = some 3 := ⟨by decide, by decide, by decide +kernel⟩
theorem hG_m_isShelf : GoodIn lw_all (va_wsS "NineKeysRoundModel" 131 yX2_isShelf (ws_ yX2_isShelf cX2_isShelf 1 (some .boolean))) := lw_S q1812 q1813 q115 q1814
theorem hy_m_isShelf : yX2_isShelf.cls ≠ "java/lang/invoke/MethodHandle" ∧ yX2_isShelf.cls ≠ "java/lang/invoke/VarHandle" ∧ (parseMethodDescriptor yX2_isShelf.desc).map (fun d => d.parameters.length) = some 1 := ⟨by decide, by decide, by decide +kernel⟩
theorem hG_m_becomes : GoodIn lw_all (wsV "NineKeysRoundModel" 152 yX2_becomes.cls yX2_becomes (ws_ yX2_becomes cX2_becomes 4 none)) := lw_V q1838 q1840 qs62 q115 q1841
theorem hy_m_becomes : yX2_becomes.cls ≠ "java/lang/invoke/MethodHandle" ∧ yX2_becomes.cls ≠ "java/lang/invoke/VarHandle" ∧ (parseMethodDescriptor yX2_becomes.desc).map (fun d => d.parameters.length) = some 3 := ⟨by decide, by decide, by decide +kernel⟩
theorem hG_m_get : GoodIn lw_all (wsV "NineKeysRoundModel" 148 yX2_get.cls yX2_get (ws_ yX2_get cX2_get 3 (some .int))) := lw_V q1834 q1836 qs61 q115 q1837
theorem hy_m_get : yX2_get.cls ≠ "java/lang/invoke/MethodHandle" ∧ yX2_get.cls ≠ "java/lang/invoke/VarHandle" ∧ (parseMethodDescriptor yX2_get.desc).map (fun d => d.parameters.length) = some 2 := ⟨by decide, by decide, by decide +kernel⟩
theorem hG_m_isFit : GoodIn lw_all (va_wsS "NineKeysRoundModel" 145 yX2_isFit (ws_ yX2_isFit cX2_isFit 2 (some .boolean))) := lw_S q1831 q1832 q115 q1833
theorem hy_m_isFit : yX2_isFit.cls ≠ "java/lang/invoke/MethodHandle" ∧ yX2_isFit.cls ≠ "java/lang/invoke/VarHandle" ∧ (parseMethodDescriptor yX2_isFit.desc).map (fun d => d.parameters.length) = some 2 := ⟨by decide, by decide, by decide +kernel⟩
theorem hG_m_isPost : GoodIn lw_all (wsV "NineKeysRoundModel" 137 yX2_isPost.cls yX2_isPost (ws_ yX2_isPost cX2_isPost 3 (some .boolean))) := lw_V q1827 q1829 qs60 q115 q1830
theorem hy_m_isPost : yX2_isPost.cls ≠ "java/lang/invoke/MethodHandle" ∧ yX2_isPost.cls ≠ "java/lang/invoke/VarHandle" ∧ (parseMethodDescriptor yX2_isPost.desc).map (fun d => d.parameters.length) = some 1 := ⟨by decide, by decide, by decide +kernel⟩
theorem hG_m_isOf : GoodIn lw_all (wsV "NineKeysRoundModel" 141 yX2_isOf.cls yX2_isOf (ws_ yX2_isOf cX2_isOf 3 (some .boolean))) := lw_V q1823 q1825 qs59 q115 q1826
theorem hy_m_isOf : yX2_isOf.cls ≠ "java/lang/invoke/MethodHandle" ∧ yX2_isOf.cls ≠ "java/lang/invoke/VarHandle" ∧ (parseMethodDescriptor yX2_isOf.desc).map (fun d => d.parameters.length) = some 2 := ⟨by decide, by decide, by decide +kernel⟩
theorem hG_m_sign : GoodIn lw_all (wsV "NineKeysRoundModel" 168 yX2_sign.cls yX2_sign (ws_ yX2_sign cX2_sign 1 (some .int))) := lw_V q1894 q1896 qs71 q115 q1897
theorem hy_m_sign : yX2_sign.cls ≠ "java/lang/invoke/MethodHandle" ∧ yX2_sign.cls ≠ "java/lang/invoke/VarHandle" ∧ (parseMethodDescriptor yX2_sign.desc).map (fun d => d.parameters.length) = some 0 := ⟨by decide, by decide, by decide +kernel⟩
theorem hG_m_is : GoodIn lw_all (wsV "NineKeysRoundModel" 189 yX2_is.cls yX2_is (ws_ yX2_is cX2_is 2 (some .boolean))) := lw_V q1905 q1907 qs73 q115 q1908
theorem hy_m_is : yX2_is.cls ≠ "java/lang/invoke/MethodHandle" ∧ yX2_is.cls ≠ "java/lang/invoke/VarHandle" ∧ (parseMethodDescriptor yX2_is.desc).map (fun d => d.parameters.length) = some 1 := ⟨by decide, by decide, by decide +kernel⟩
theorem hG_m_codes : GoodIn lw_all (wsV "NineKeysRoundModel" 179 yX2_codes.cls yX2_codes (ws_ yX2_codes cX2_codes 2 (some .boolean))) := lw_V q1898 q1900 qs72 q115 q1901
theorem hy_m_codes : yX2_codes.cls ≠ "java/lang/invoke/MethodHandle" ∧ yX2_codes.cls ≠ "java/lang/invoke/VarHandle" ∧ (parseMethodDescriptor yX2_codes.desc).map (fun d => d.parameters.length) = some 1 := ⟨by decide, by decide, by decide +kernel⟩
theorem hG_m_isDigit : GoodIn lw_all (wsV "NineKeysRoundModel" 175 yX2_isDigit.cls yX2_isDigit (ws_ yX2_isDigit cX2_isDigit 1 (some .boolean))) := lw_V q1890 q1892 qs70 q115 q1893
theorem hy_m_isDigit : yX2_isDigit.cls ≠ "java/lang/invoke/MethodHandle" ∧ yX2_isDigit.cls ≠ "java/lang/invoke/VarHandle" ∧ (parseMethodDescriptor yX2_isDigit.desc).map (fun d => d.parameters.length) = some 0 := ⟨by decide, by decide, by decide +kernel⟩
theorem hG_m_isP : GoodIn lw_all (wsV "NineKeysRoundModel" 198 yX2_isP.cls yX2_isP (ws_ yX2_isP cX2_isP 2 (some .boolean))) := lw_V q1882 q1884 qs68 q115 q1885
theorem hy_m_isP : yX2_isP.cls ≠ "java/lang/invoke/MethodHandle" ∧ yX2_isP.cls ≠ "java/lang/invoke/VarHandle" ∧ (parseMethodDescriptor yX2_isP.desc).map (fun d => d.parameters.length) = some 0 := ⟨by decide, by decide, by decide +kernel⟩
theorem hG_m_isS : GoodIn lw_all (wsV "NineKeysRoundModel" 201 yX2_isS.cls yX2_isS (ws_ yX2_isS cX2_isS 2 (some .boolean))) := lw_V q1878 q1880 qs67 q115 q1881
theorem hy_m_isS : yX2_isS.cls ≠ "java/lang/invoke/MethodHandle" ∧ yX2_isS.cls ≠ "java/lang/invoke/VarHandle" ∧ (parseMethodDescriptor yX2_isS.desc).map (fun d => d.parameters.length) = some 0 := ⟨by decide, by decide, by decide +kernel⟩
theorem hG_m_isB : GoodIn lw_all (wsV "NineKeysRoundModel" 204 yX2_isB.cls yX2_isB (ws_ yX2_isB cX2_isB 2 (some .boolean))) := lw_V q1874 q1876 qs66 q115 q1877
theorem hy_m_isB : yX2_isB.cls ≠ "java/lang/invoke/MethodHandle" ∧ yX2_isB.cls ≠ "java/lang/invoke/VarHandle" ∧ (parseMethodDescriptor yX2_isB.desc).map (fun d => d.parameters.length) = some 0 := ⟨by decide, by decide, by decide +kernel⟩
theorem hG_m_isA : GoodIn lw_all (wsV "NineKeysRoundModel" 207 yX2_isA.cls yX2_isA (ws_ yX2_isA cX2_isA 1 (some .boolean))) := lw_V q1870 q1872 qs65 q115 q1873
theorem hy_m_isA : yX2_isA.cls ≠ "java/lang/invoke/MethodHandle" ∧ yX2_isA.cls ≠ "java/lang/invoke/VarHandle" ∧ (parseMethodDescriptor yX2_isA.desc).map (fun d => d.parameters.length) = some 0 := ⟨by decide, by decide, by decide +kernel⟩
theorem hG_m_isE : GoodIn lw_all (wsV "NineKeysRoundModel" 195 yX2_isE.cls yX2_isE (ws_ yX2_isE cX2_isE 1 (some .boolean))) := lw_V q1866 q1868 qs64 q115 q1869
theorem hy_m_isE : yX2_isE.cls ≠ "java/lang/invoke/MethodHandle" ∧ yX2_isE.cls ≠ "java/lang/invoke/VarHandle" ∧ (parseMethodDescriptor yX2_isE.desc).map (fun d => d.parameters.length) = some 0 := ⟨by decide, by decide, by decide +kernel⟩
theorem hG_m_nameOf : GoodIn lw_all (va_wsS "NineKeysRoundModel" 182 yX2_nameOf (ws_ yX2_nameOf cX2_nameOf 1 (some .int))) := lw_S q1902 q1903 q115 q1904
theorem hy_m_nameOf : yX2_nameOf.cls ≠ "java/lang/invoke/MethodHandle" ∧ yX2_nameOf.cls ≠ "java/lang/invoke/VarHandle" ∧ (parseMethodDescriptor yX2_nameOf.desc).map (fun d => d.parameters.length) = some 1 := ⟨by decide, by decide, by decide +kernel⟩
theorem hG_m_isO : GoodIn lw_all (wsV "NineKeysRoundModel" 192 yX2_isO.cls yX2_isO (ws_ yX2_isO cX2_isO 3 (some .boolean))) := lw_V q1886 q1888 qs69 q115 q1889
theorem hy_m_isO : yX2_isO.cls ≠ "java/lang/invoke/MethodHandle" ∧ yX2_isO.cls ≠ "java/lang/invoke/VarHandle" ∧ (parseMethodDescriptor yX2_isO.desc).map (fun d => d.parameters.length) = some 0 := ⟨by decide, by decide, by decide +kernel⟩
theorem hG_m_isLine : GoodIn lw_all (wsV "NineKeysRoundModel" 213 yX2_isLine.cls yX2_isLine (ws_ yX2_isLine cX2_isLine 1 (some .boolean))) := lw_V q1862 q1864 qs63 q115 q1865
theorem hy_m_isLine : yX2_isLine.cls ≠ "java/lang/invoke/MethodHandle" ∧ yX2_isLine.cls ≠ "java/lang/invoke/VarHandle" ∧ (parseMethodDescriptor yX2_isLine.desc).map (fun d => d.parameters.length) = some 0 := ⟨by decide, by decide, by decide +kernel⟩
theorem hG_m_noRow : GoodIn lw_all (wsV "NineKeysRoundModel" 265 yX2_noRow.cls yX2_noRow (ws_ yX2_noRow cX2_noRow 3 (some .int))) := lw_V q1913 q1915 qs74 q115 q1916
theorem hy_m_noRow : yX2_noRow.cls ≠ "java/lang/invoke/MethodHandle" ∧ yX2_noRow.cls ≠ "java/lang/invoke/VarHandle" ∧ (parseMethodDescriptor yX2_noRow.desc).map (fun d => d.parameters.length) = some 2 := ⟨by decide, by decide, by decide +kernel⟩
theorem hG_m_xOf : GoodIn lw_all (wsV "NineKeysRoundModel" 240 yX2_xOf.cls yX2_xOf (ws_ yX2_xOf cX2_xOf 2 (some .int))) := lw_V q1937 q1939 qs80 q115 q1940
theorem hy_m_xOf : yX2_xOf.cls ≠ "java/lang/invoke/MethodHandle" ∧ yX2_xOf.cls ≠ "java/lang/invoke/VarHandle" ∧ (parseMethodDescriptor yX2_xOf.desc).map (fun d => d.parameters.length) = some 1 := ⟨by decide, by decide, by decide +kernel⟩
theorem hG_m_yOf : GoodIn lw_all (wsV "NineKeysRoundModel" 246 yX2_yOf.cls yX2_yOf (ws_ yX2_yOf cX2_yOf 2 (some .int))) := lw_V q1942 q1944 qs81 q115 q1945
theorem hy_m_yOf : yX2_yOf.cls ≠ "java/lang/invoke/MethodHandle" ∧ yX2_yOf.cls ≠ "java/lang/invoke/VarHandle" ∧ (parseMethodDescriptor yX2_yOf.desc).map (fun d => d.parameters.length) = some 1 := ⟨by decide, by decide, by decide +kernel⟩
theorem hG_m_apart : GoodIn lw_all (wsV "NineKeysRoundModel" 249 yX2_apart.cls yX2_apart (ws_ yX2_apart cX2_apart 3 (some .int))) := lw_V q1933 q1935 qs79 q115 q1936
theorem hy_m_apart : yX2_apart.cls ≠ "java/lang/invoke/MethodHandle" ∧ yX2_apart.cls ≠ "java/lang/invoke/VarHandle" ∧ (parseMethodDescriptor yX2_apart.desc).map (fun d => d.parameters.length) = some 2 := ⟨by decide, by decide, by decide +kernel⟩
theorem hG_m_minutes : GoodIn lw_all (wsV "NineKeysRoundModel" 258 yX2_minutes.cls yX2_minutes (ws_ yX2_minutes cX2_minutes 3 (some .int))) := lw_V q1929 q1931 qs78 q115 q1932
theorem hy_m_minutes : yX2_minutes.cls ≠ "java/lang/invoke/MethodHandle" ∧ yX2_minutes.cls ≠ "java/lang/invoke/VarHandle" ∧ (parseMethodDescriptor yX2_minutes.desc).map (fun d => d.parameters.length) = some 2 := ⟨by decide, by decide, by decide +kernel⟩
theorem hG_m_oneRound : GoodIn lw_all (wsV "NineKeysRoundModel" 271 yX2_oneRound.cls yX2_oneRound (ws_ yX2_oneRound cX2_oneRound 3 (some .int))) := lw_V q1925 q1927 qs77 q115 q1928
theorem hy_m_oneRound : yX2_oneRound.cls ≠ "java/lang/invoke/MethodHandle" ∧ yX2_oneRound.cls ≠ "java/lang/invoke/VarHandle" ∧ (parseMethodDescriptor yX2_oneRound.desc).map (fun d => d.parameters.length) = some 0 := ⟨by decide, by decide, by decide +kernel⟩
theorem hG_m_toldAt : GoodIn lw_all (wsV "NineKeysRoundModel" 252 yX2_toldAt.cls yX2_toldAt (ws_ yX2_toldAt cX2_toldAt 3 (some .int))) := lw_V q1921 q1923 qs76 q115 q1924
theorem hy_m_toldAt : yX2_toldAt.cls ≠ "java/lang/invoke/MethodHandle" ∧ yX2_toldAt.cls ≠ "java/lang/invoke/VarHandle" ∧ (parseMethodDescriptor yX2_toldAt.desc).map (fun d => d.parameters.length) = some 2 := ⟨by decide, by decide, by decide +kernel⟩
theorem hG_m_reads : GoodIn lw_all (wsV "NineKeysRoundModel" 268 yX2_reads.cls yX2_reads (ws_ yX2_reads cX2_reads 2 none)) := lw_V q1917 q1919 qs75 q115 q1920
theorem hy_m_reads : yX2_reads.cls ≠ "java/lang/invoke/MethodHandle" ∧ yX2_reads.cls ≠ "java/lang/invoke/VarHandle" ∧ (parseMethodDescriptor yX2_reads.desc).map (fun d => d.parameters.length) = some 1 := ⟨by decide, by decide, by decide +kernel⟩
theorem hG_m_walks : GoodIn lw_all (wsV "NineKeysRoundModel" 261 yX2_walks.cls yX2_walks (ws_ yX2_walks cX2_walks 5 none)) := lw_V q1950 q1952 qs82 q115 q1953
theorem hy_m_walks : yX2_walks.cls ≠ "java/lang/invoke/MethodHandle" ∧ yX2_walks.cls ≠ "java/lang/invoke/VarHandle" ∧ (parseMethodDescriptor yX2_walks.desc).map (fun d => d.parameters.length) = some 1 := ⟨by decide, by decide, by decide +kernel⟩
theorem hG_m_isMinute : GoodIn lw_all (va_wsS "NineKeysRoundModel" 274 yX2_isMinute (ws_ yX2_isMinute cX2_isMinute 1 (some .boolean))) := lw_S q1958 q1959 q115 q1960
theorem hy_m_isMinute : yX2_isMinute.cls ≠ "java/lang/invoke/MethodHandle" ∧ yX2_isMinute.cls ≠ "java/lang/invoke/VarHandle" ∧ (parseMethodDescriptor yX2_isMinute.desc).map (fun d => d.parameters.length) = some 1 := ⟨by decide, by decide, by decide +kernel⟩
theorem hG_m_isSeen : GoodIn lw_all (wsV "NineKeysRoundModel" 283 yX2_isSeen.cls yX2_isSeen (ws_ yX2_isSeen cX2_isSeen 4 (some .boolean))) := lw_V q1973 q1975 qs85 q115 q1976
theorem hy_m_isSeen : yX2_isSeen.cls ≠ "java/lang/invoke/MethodHandle" ∧ yX2_isSeen.cls ≠ "java/lang/invoke/VarHandle" ∧ (parseMethodDescriptor yX2_isSeen.desc).map (fun d => d.parameters.length) = some 2 := ⟨by decide, by decide, by decide +kernel⟩
theorem hG_m_looks : GoodIn lw_all (wsV "NineKeysRoundModel" 277 yX2_looks.cls yX2_looks (ws_ yX2_looks cX2_looks 3 none)) := lw_V q1965 q1967 qs83 q115 q1968
theorem hy_m_looks : yX2_looks.cls ≠ "java/lang/invoke/MethodHandle" ∧ yX2_looks.cls ≠ "java/lang/invoke/VarHandle" ∧ (parseMethodDescriptor yX2_looks.desc).map (fun d => d.parameters.length) = some 0 := ⟨by decide, by decide, by decide +kernel⟩
theorem hG_m_unseenFor : GoodIn lw_all (wsV "NineKeysRoundModel" 280 yX2_unseenFor.cls yX2_unseenFor (ws_ yX2_unseenFor cX2_unseenFor 4 (some .int))) := lw_V q1969 q1971 qs84 q115 q1972
theorem hy_m_unseenFor : yX2_unseenFor.cls ≠ "java/lang/invoke/MethodHandle" ∧ yX2_unseenFor.cls ≠ "java/lang/invoke/VarHandle" ∧ (parseMethodDescriptor yX2_unseenFor.desc).map (fun d => d.parameters.length) = some 2 := ⟨by decide, by decide, by decide +kernel⟩
theorem hG_m_both : GoodIn lw_all (va_wsS "NineKeysRoundModel" 223 yX2_both (ws_ yX2_both cX2_both 3 (some .int))) := lw_S q1991 q1992 q115 q1993
theorem hy_m_both : yX2_both.cls ≠ "java/lang/invoke/MethodHandle" ∧ yX2_both.cls ≠ "java/lang/invoke/VarHandle" ∧ (parseMethodDescriptor yX2_both.desc).map (fun d => d.parameters.length) = some 3 := ⟨by decide, by decide, by decide +kernel⟩
theorem hG_m_worked : GoodIn lw_all (wsV "NineKeysRoundModel" 234 yX2_worked.cls yX2_worked (ws_ yX2_worked cX2_worked 6 (some .int))) := lw_V q1987 q1989 qs87 q115 q1990
theorem hy_m_worked : yX2_worked.cls ≠ "java/lang/invoke/MethodHandle" ∧ yX2_worked.cls ≠ "java/lang/invoke/VarHandle" ∧ (parseMethodDescriptor yX2_worked.desc).map (fun d => d.parameters.length) = some 2 := ⟨by decide, by decide, by decide +kernel⟩
theorem hG_m_loss : GoodIn lw_all (wsV "NineKeysRoundModel" 286 yX2_loss.cls yX2_loss (ws_ yX2_loss cX2_loss 5 (some .int))) := lw_V q1982 q1984 qs86 q115 q1985
theorem hy_m_loss : yX2_loss.cls ≠ "java/lang/invoke/MethodHandle" ∧ yX2_loss.cls ≠ "java/lang/invoke/VarHandle" ∧ (parseMethodDescriptor yX2_loss.desc).map (fun d => d.parameters.length) = some 3 := ⟨by decide, by decide, by decide +kernel⟩
theorem hG_m_gapOf : GoodIn lw_all (wsV "NineKeysRoundModel" 289 yX2_gapOf.cls yX2_gapOf (ws_ yX2_gapOf cX2_gapOf 8 (some .int))) := lw_V q2002 q2004 qs88 q115 q2005
theorem hy_m_gapOf : yX2_gapOf.cls ≠ "java/lang/invoke/MethodHandle" ∧ yX2_gapOf.cls ≠ "java/lang/invoke/VarHandle" ∧ (parseMethodDescriptor yX2_gapOf.desc).map (fun d => d.parameters.length) = some 1 := ⟨by decide, by decide, by decide +kernel⟩
theorem hG_m_isSet : GoodIn lw_all (wsV "NineKeysRoundModel" 302 yX2_isSet.cls yX2_isSet (ws_ yX2_isSet cX2_isSet 2 (some .boolean))) := lw_V q2014 q2016 qs89 q115 q2017
theorem hy_m_isSet : yX2_isSet.cls ≠ "java/lang/invoke/MethodHandle" ∧ yX2_isSet.cls ≠ "java/lang/invoke/VarHandle" ∧ (parseMethodDescriptor yX2_isSet.desc).map (fun d => d.parameters.length) = some 1 := ⟨by decide, by decide, by decide +kernel⟩
theorem hG_m_exchange : GoodIn lw_all (wsV "NineKeysRoundModel" 292 yX2_exchange.cls yX2_exchange (ws_ yX2_exchange cX2_exchange 4 none)) := lw_V q2031 q2033 qs93 q115 q2034
theorem hy_m_exchange : yX2_exchange.cls ≠ "java/lang/invoke/MethodHandle" ∧ yX2_exchange.cls ≠ "java/lang/invoke/VarHandle" ∧ (parseMethodDescriptor yX2_exchange.desc).map (fun d => d.parameters.length) = some 2 := ⟨by decide, by decide, by decide +kernel⟩
theorem hG_m_nextOrder : GoodIn lw_all (wsV "NineKeysRoundModel" 299 yX2_nextOrder.cls yX2_nextOrder (ws_ yX2_nextOrder cX2_nextOrder 6 (some .boolean))) := lw_V q2027 q2029 qs92 q115 q2030
theorem hy_m_nextOrder : yX2_nextOrder.cls ≠ "java/lang/invoke/MethodHandle" ∧ yX2_nextOrder.cls ≠ "java/lang/invoke/VarHandle" ∧ (parseMethodDescriptor yX2_nextOrder.desc).map (fun d => d.parameters.length) = some 1 := ⟨by decide, by decide, by decide +kernel⟩
theorem hG_m_took : GoodIn lw_all (wsV "NineKeysRoundModel" 296 yX2_took.cls yX2_took (ws_ yX2_took cX2_took 5 (some .int))) := lw_V q2023 q2025 qs91 q115 q2026
theorem hy_m_took : yX2_took.cls ≠ "java/lang/invoke/MethodHandle" ∧ yX2_took.cls ≠ "java/lang/invoke/VarHandle" ∧ (parseMethodDescriptor yX2_took.desc).map (fun d => d.parameters.length) = some 1 := ⟨by decide, by decide, by decide +kernel⟩
theorem hG_m_shortestOf : GoodIn lw_all (wsV "NineKeysRoundModel" 310 yX2_shortestOf.cls yX2_shortestOf (ws_ yX2_shortestOf cX2_shortestOf 7 (some .int))) := lw_V q2019 q2021 qs90 q115 q2022
theorem hy_m_shortestOf : yX2_shortestOf.cls ≠ "java/lang/invoke/MethodHandle" ∧ yX2_shortestOf.cls ≠ "java/lang/invoke/VarHandle" ∧ (parseMethodDescriptor yX2_shortestOf.desc).map (fun d => d.parameters.length) = some 1 := ⟨by decide, by decide, by decide +kernel⟩
theorem hG_m_thiefAt : GoodIn lw_all (wsV "NineKeysRoundModel" 313 yX2_thiefAt.cls yX2_thiefAt (ws_ yX2_thiefAt cX2_thiefAt 6 (some .int))) := lw_V q2043 q2045 qs94 q115 q2046
theorem hy_m_thiefAt : yX2_thiefAt.cls ≠ "java/lang/invoke/MethodHandle" ∧ yX2_thiefAt.cls ≠ "java/lang/invoke/VarHandle" ∧ (parseMethodDescriptor yX2_thiefAt.desc).map (fun d => d.parameters.length) = some 3 := ⟨by decide, by decide, by decide +kernel⟩
theorem hG_m_twoOf : GoodIn lw_all (wsV "NineKeysRoundModel" 316 yX2_twoOf.cls yX2_twoOf (ws_ yX2_twoOf cX2_twoOf 7 (some .int))) := lw_V q2059 q2061 qs96 q115 q2062
theorem hy_m_twoOf : yX2_twoOf.cls ≠ "java/lang/invoke/MethodHandle" ∧ yX2_twoOf.cls ≠ "java/lang/invoke/VarHandle" ∧ (parseMethodDescriptor yX2_twoOf.desc).map (fun d => d.parameters.length) = some 2 := ⟨by decide, by decide, by decide +kernel⟩
theorem hG_m_bestTwo : GoodIn lw_all (wsV "NineKeysRoundModel" 319 yX2_bestTwo.cls yX2_bestTwo (ws_ yX2_bestTwo cX2_bestTwo 6 (some .int))) := lw_V q2055 q2057 qs95 q115 q2058
theorem hy_m_bestTwo : yX2_bestTwo.cls ≠ "java/lang/invoke/MethodHandle" ∧ yX2_bestTwo.cls ≠ "java/lang/invoke/VarHandle" ∧ (parseMethodDescriptor yX2_bestTwo.desc).map (fun d => d.parameters.length) = some 0 := ⟨by decide, by decide, by decide +kernel⟩
theorem hG_m_turns : GoodIn lw_all (wsV "NineKeysRoundModel" 322 yX2_turns.cls yX2_turns (ws_ yX2_turns cX2_turns 4 none)) := lw_V q2074 q2076 qs98 q115 q2077
theorem hy_m_turns : yX2_turns.cls ≠ "java/lang/invoke/MethodHandle" ∧ yX2_turns.cls ≠ "java/lang/invoke/VarHandle" ∧ (parseMethodDescriptor yX2_turns.desc).map (fun d => d.parameters.length) = some 0 := ⟨by decide, by decide, by decide +kernel⟩
theorem hG_m_bothWays : GoodIn lw_all (wsV "NineKeysRoundModel" 331 yX2_bothWays.cls yX2_bothWays (ws_ yX2_bothWays cX2_bothWays 3 none)) := lw_V q2070 q2072 qs97 q115 q2073
theorem hy_m_bothWays : yX2_bothWays.cls ≠ "java/lang/invoke/MethodHandle" ∧ yX2_bothWays.cls ≠ "java/lang/invoke/VarHandle" ∧ (parseMethodDescriptor yX2_bothWays.desc).map (fun d => d.parameters.length) = some 1 := ⟨by decide, by decide, by decide +kernel⟩
theorem hG_m_isMix : GoodIn lw_all (va_wsS "NineKeysRoundModel" 328 yX2_isMix (ws_ yX2_isMix cX2_isMix 1 (some .boolean))) := lw_S q2067 q2068 q115 q2069
theorem hy_m_isMix : yX2_isMix.cls ≠ "java/lang/invoke/MethodHandle" ∧ yX2_isMix.cls ≠ "java/lang/invoke/VarHandle" ∧ (parseMethodDescriptor yX2_isMix.desc).map (fun d => d.parameters.length) = some 1 := ⟨by decide, by decide, by decide +kernel⟩
theorem hG_m_isFree : GoodIn lw_all (wsV "NineKeysRoundModel" 325 yX2_isFree.cls yX2_isFree (ws_ yX2_isFree cX2_isFree 5 (some .boolean))) := lw_V q2082 q2084 qs100 q115 q2085
theorem hy_m_isFree : yX2_isFree.cls ≠ "java/lang/invoke/MethodHandle" ∧ yX2_isFree.cls ≠ "java/lang/invoke/VarHandle" ∧ (parseMethodDescriptor yX2_isFree.desc).map (fun d => d.parameters.length) = some 3 := ⟨by decide, by decide, by decide +kernel⟩
theorem hG_m_succeeds : GoodIn lw_all (wsV "NineKeysRoundModel" 334 yX2_succeeds.cls yX2_succeeds (ws_ yX2_succeeds cX2_succeeds 4 (some .int))) := lw_V q2078 q2080 qs99 q115 q2081
theorem hy_m_succeeds : yX2_succeeds.cls ≠ "java/lang/invoke/MethodHandle" ∧ yX2_succeeds.cls ≠ "java/lang/invoke/VarHandle" ∧ (parseMethodDescriptor yX2_succeeds.desc).map (fun d => d.parameters.length) = some 3 := ⟨by decide, by decide, by decide +kernel⟩
theorem hG_m_bestMinute_2 : GoodIn lw_all (wsV "NineKeysRoundModel" 337 yX2_bestMinute_2.cls yX2_bestMinute_2 (ws_ yX2_bestMinute_2 cX2_bestMinute_2 7 (some .int))) := lw_V q2090 q2092 qs101 q115 q2093
theorem hy_m_bestMinute_2 : yX2_bestMinute_2.cls ≠ "java/lang/invoke/MethodHandle" ∧ yX2_bestMinute_2.cls ≠ "java/lang/invoke/VarHandle" ∧ (parseMethodDescriptor yX2_bestMinute_2.desc).map (fun d => d.parameters.length) = some 2 := ⟨by decide, by decide, by decide +kernel⟩
theorem hG_m_later : GoodIn lw_all (wsV "NineKeysRoundModel" 340 yX2_later.cls yX2_later (ws_ yX2_later cX2_later 6 (some .int))) := lw_V q2102 q2104 qs102 q115 q2105
theorem hy_m_later : yX2_later.cls ≠ "java/lang/invoke/MethodHandle" ∧ yX2_later.cls ≠ "java/lang/invoke/VarHandle" ∧ (parseMethodDescriptor yX2_later.desc).map (fun d => d.parameters.length) = some 2 := ⟨by decide, by decide, by decide +kernel⟩
theorem hG_m_isPaper : GoodIn lw_all (wsV "NineKeysRoundModel" 343 yX2_isPaper.cls yX2_isPaper (ws_ yX2_isPaper cX2_isPaper 3 (some .boolean))) := lw_V q2110 q2112 qs103 q115 q2113
theorem hy_m_isPaper : yX2_isPaper.cls ≠ "java/lang/invoke/MethodHandle" ∧ yX2_isPaper.cls ≠ "java/lang/invoke/VarHandle" ∧ (parseMethodDescriptor yX2_isPaper.desc).map (fun d => d.parameters.length) = some 1 := ⟨by decide, by decide, by decide +kernel⟩
theorem hG_m_apartFrom : GoodIn lw_all (wsV "NineKeysRoundModel" 346 yX2_apartFrom.cls yX2_apartFrom (ws_ yX2_apartFrom cX2_apartFrom 3 (some .int))) := lw_V q2122 q2124 qs104 q115 q2125
theorem hy_m_apartFrom : yX2_apartFrom.cls ≠ "java/lang/invoke/MethodHandle" ∧ yX2_apartFrom.cls ≠ "java/lang/invoke/VarHandle" ∧ (parseMethodDescriptor yX2_apartFrom.desc).map (fun d => d.parameters.length) = some 2 := ⟨by decide, by decide, by decide +kernel⟩
theorem hG_m_nearest : GoodIn lw_all (wsV "NineKeysRoundModel" 349 yX2_nearest.cls yX2_nearest (ws_ yX2_nearest cX2_nearest 4 (some .int))) := lw_V q2126 q2128 qs105 q115 q2129
theorem hy_m_nearest : yX2_nearest.cls ≠ "java/lang/invoke/MethodHandle" ∧ yX2_nearest.cls ≠ "java/lang/invoke/VarHandle" ∧ (parseMethodDescriptor yX2_nearest.desc).map (fun d => d.parameters.length) = some 1 := ⟨by decide, by decide, by decide +kernel⟩
theorem hG_m_above : GoodIn lw_all (va_wsS "NineKeysRoundModel" 377 yX2_above (ws_ yX2_above cX2_above 1 (some .int))) := lw_S q2175 q2176 q115 q2177
theorem hy_m_above : yX2_above.cls ≠ "java/lang/invoke/MethodHandle" ∧ yX2_above.cls ≠ "java/lang/invoke/VarHandle" ∧ (parseMethodDescriptor yX2_above.desc).map (fun d => d.parameters.length) = some 1 := ⟨by decide, by decide, by decide +kernel⟩
theorem hG_m_ran : GoodIn lw_all (wsV "NineKeysRoundModel" 371 yX2_ran.cls yX2_ran (ws_ yX2_ran cX2_ran 2 none)) := lw_V q2171 q2173 qs107 q115 q2174
theorem hy_m_ran : yX2_ran.cls ≠ "java/lang/invoke/MethodHandle" ∧ yX2_ran.cls ≠ "java/lang/invoke/VarHandle" ∧ (parseMethodDescriptor yX2_ran.desc).map (fun d => d.parameters.length) = some 1 := ⟨by decide, by decide, by decide +kernel⟩
theorem hG_m_turnsBy : GoodIn lw_all (wsV "NineKeysRoundModel" 374 yX2_turnsBy.cls yX2_turnsBy (ws_ yX2_turnsBy cX2_turnsBy 4 (some .int))) := lw_V q2167 q2169 qs106 q115 q2170
theorem hy_m_turnsBy : yX2_turnsBy.cls ≠ "java/lang/invoke/MethodHandle" ∧ yX2_turnsBy.cls ≠ "java/lang/invoke/VarHandle" ∧ (parseMethodDescriptor yX2_turnsBy.desc).map (fun d => d.parameters.length) = some 3 := ⟨by decide, by decide, by decide +kernel⟩
theorem hG_m_fearsBy : GoodIn lw_all (wsV "NineKeysRoundModel" 383 yX2_fearsBy.cls yX2_fearsBy (ws_ yX2_fearsBy cX2_fearsBy 5 (some .int))) := lw_V q2182 q2184 qs109 q115 q2185
theorem hy_m_fearsBy : yX2_fearsBy.cls ≠ "java/lang/invoke/MethodHandle" ∧ yX2_fearsBy.cls ≠ "java/lang/invoke/VarHandle" ∧ (parseMethodDescriptor yX2_fearsBy.desc).map (fun d => d.parameters.length) = some 3 := ⟨by decide, by decide, by decide +kernel⟩
theorem hG_m_seesBy : GoodIn lw_all (wsV "NineKeysRoundModel" 380 yX2_seesBy.cls yX2_seesBy (ws_ yX2_seesBy cX2_seesBy 5 (some .int))) := lw_V q2178 q2180 qs108 q115 q2181
theorem hy_m_seesBy : yX2_seesBy.cls ≠ "java/lang/invoke/MethodHandle" ∧ yX2_seesBy.cls ≠ "java/lang/invoke/VarHandle" ∧ (parseMethodDescriptor yX2_seesBy.desc).map (fun d => d.parameters.length) = some 3 := ⟨by decide, by decide, by decide +kernel⟩
theorem hG_m_tells : GoodIn lw_all (wsV "NineKeysRoundModel" 386 yX2_tells.cls yX2_tells (ws_ yX2_tells cX2_tells 5 (some .int))) := lw_V q2186 q2188 qs110 q115 q2189
theorem hy_m_tells : yX2_tells.cls ≠ "java/lang/invoke/MethodHandle" ∧ yX2_tells.cls ≠ "java/lang/invoke/VarHandle" ∧ (parseMethodDescriptor yX2_tells.desc).map (fun d => d.parameters.length) = some 3 := ⟨by decide, by decide, by decide +kernel⟩
theorem hG_m_isRow : GoodIn lw_all (wsV "NineKeysRoundModel" 392 yX2_isRow.cls yX2_isRow (ws_ yX2_isRow cX2_isRow 2 (some .boolean))) := lw_V q2206 q2208 qs111 q115 q2209
theorem hy_m_isRow : yX2_isRow.cls ≠ "java/lang/invoke/MethodHandle" ∧ yX2_isRow.cls ≠ "java/lang/invoke/VarHandle" ∧ (parseMethodDescriptor yX2_isRow.desc).map (fun d => d.parameters.length) = some 1 := ⟨by decide, by decide, by decide +kernel⟩
theorem hG_m_kept : GoodIn lw_all (va_wsS "NineKeysRoundModel" 395 yX2_kept (ws_ yX2_kept cX2_kept 3 (some .long))) := lw_S q2210 q2211 q115 q2212
theorem hy_m_kept : yX2_kept.cls ≠ "java/lang/invoke/MethodHandle" ∧ yX2_kept.cls ≠ "java/lang/invoke/VarHandle" ∧ (parseMethodDescriptor yX2_kept.desc).map (fun d => d.parameters.length) = some 2 := ⟨by decide, by decide, by decide +kernel⟩
/-! newPost -/
def m_newPost (T : MS) (p1 : Int32) (p2 : Int32) (p3 : Int32) : Option (Int32 × MS) :=
  chk 9 (T.1 0) (
  nm (sA T 1 (T.1 0).toNatClampNeg p1) fun T1 =>
  chk 9 (T1.1 0) (
  nm (sA T1 2 (T1.1 0).toNatClampNeg p2) fun T3 =>
  chk 9 (T3.1 0) (
  nm (sA T3 3 (T3.1 0).toNatClampNeg p3) fun T5 =>
  chk 9 (T5.1 0) (
  nm (sA T5 4 (T5.1 0).toNatClampNeg 60) fun T7 =>
  chk 9 (T7.1 0) (
  nm (sA T7 26 (T7.1 0).toNatClampNeg 0) fun T9 =>
  nm (sI T9 0 ((T9.1 0) + 1)) fun T11 =>
  some (T9.1 0, T11))))))
theorem mt_m_newPost {κ : jK} (hκ : jStd κ) (G : Nat → Nat) {T : MS} {p1 : Int32} {p2 : Int32} {p3 : Int32} {v : Int32} {T' : MS} (h : m_newPost T p1 p2 p3 = some (v, T')) : jM κ yX2_newPost (ws_ yX2_newPost cX2_newPost 4 (some .int)) 0 0 0 [.ref (G 0), .int p1, .int p2, .int p3] (wM κ G T) (fun u w' => u = some (.int v) ∧ w' = wM κ G T') := by
  rw [m_newPost] at h
  refine jM.of (by decide) rfl (Nat.le_of_ble_eq_true rfl) fun Γ C _ => ?_
  show J κ Γ (0, 0, 0, (fun u w' => u = some (.int v) ∧ w' = wM κ G T')) 4 (wM κ G T) 0 0 0 [some (.ref (G 0)), some (.int p1), some (.int p2), some (.int p3)] []
  refine j_aload_n C dX2_newPost_0 rfl rfl ?_
  refine jm_geta hκ C 1 (by decide) rfl q1638 dX2_newPost_1 ?_
  refine j_aload_n C dX2_newPost_4 rfl rfl ?_
  refine jm_geti hκ C 0 (by decide) rfl q1637 dX2_newPost_5 ?_
  refine j_iload_n C dX2_newPost_8 rfl rfl ?_
  obtain ⟨b2, h⟩ := chk_some h
  refine jm_iast hκ C 1 rfl b2 dX2_newPost_9 ?_
  refine jm_nmT h (fun T1 h => ?_)
  refine j_aload_n C dX2_newPost_10 rfl rfl ?_
  refine jm_geta hκ C 2 (by decide) rfl q1639 dX2_newPost_11 ?_
  refine j_aload_n C dX2_newPost_14 rfl rfl ?_
  refine jm_geti hκ C 0 (by decide) rfl q1637 dX2_newPost_15 ?_
  refine j_iload_n C dX2_newPost_18 rfl rfl ?_
  obtain ⟨b4, h⟩ := chk_some h
  refine jm_iast hκ C 2 rfl b4 dX2_newPost_19 ?_
  refine jm_nmT h (fun T3 h => ?_)
  refine j_aload_n C dX2_newPost_20 rfl rfl ?_
  refine jm_geta hκ C 3 (by decide) rfl q1640 dX2_newPost_21 ?_
  refine j_aload_n C dX2_newPost_24 rfl rfl ?_
  refine jm_geti hκ C 0 (by decide) rfl q1637 dX2_newPost_25 ?_
  refine j_iload_n C dX2_newPost_28 rfl rfl ?_
  obtain ⟨b6, h⟩ := chk_some h
  refine jm_iast hκ C 3 rfl b6 dX2_newPost_29 ?_
  refine jm_nmT h (fun T5 h => ?_)
  refine j_aload_n C dX2_newPost_30 rfl rfl ?_
  refine jm_geta hκ C 4 (by decide) rfl q1641 dX2_newPost_31 ?_
  refine j_aload_n C dX2_newPost_34 rfl rfl ?_
  refine jm_geti hκ C 0 (by decide) rfl q1637 dX2_newPost_35 ?_
  refine j_bipush C (v := 60) dX2_newPost_38 rfl ?_
  obtain ⟨b8, h⟩ := chk_some h
  refine jm_iast hκ C 4 rfl b8 dX2_newPost_40 ?_
  refine jm_nmT h (fun T7 h => ?_)
  refine j_aload_n C dX2_newPost_41 rfl rfl ?_
  refine jm_geta hκ C 26 (by decide) rfl q1663 dX2_newPost_42 ?_
  refine j_aload_n C dX2_newPost_45 rfl rfl ?_
  refine jm_geti hκ C 0 (by decide) rfl q1637 dX2_newPost_46 ?_
  refine j_iconst C (v := 0) dX2_newPost_49 rfl ?_
  obtain ⟨b10, h⟩ := chk_some h
  refine jm_iast hκ C 26 rfl b10 dX2_newPost_50 ?_
  refine jm_nmT h (fun T9 h => ?_)
  refine j_aload_n C dX2_newPost_51 rfl rfl ?_
  refine j_dup C dX2_newPost_52 rfl ?_
  refine jm_geti hκ C 0 (by decide) rfl q1637 dX2_newPost_53 ?_
  refine j_dup_x1 C dX2_newPost_56 rfl rfl ?_
  refine j_iconst C (v := 1) dX2_newPost_57 rfl ?_
  refine j_iadd C dX2_newPost_58 ?_
  refine jm_puti hκ C 0 (by decide) rfl rfl rfl q1637 dX2_newPost_59 ?_
  refine jm_nmT h (fun T11 h => ?_)
  obtain ⟨rfl, rfl⟩ := sp2 h
  exact j_iret C dX2_newPost_62 (Nat.zero_le _) (Nat.zero_le _) ⟨rfl, rfl⟩
/-! post -/
def m_post (T : MS) (p1 : Int32) : Option (Int32 × MS) :=
  (if p1 < 0 then
  some ((-1), T)
  else
  (if 15 < (p1 / 100) then
  some ((-1), T)
  else
  (if (jrem p1 100) ≤ 15 then
  (if (T.1 0) = 9 then
  some ((-3), T)
  else
  b2 (m_newPost T (jrem p1 100) (p1 / 100) 1) fun v2 T3 =>
  some (v2, T3))
  else
  some ((-1), T))))
theorem mt_m_post {κ : jK} (hκ : jStd κ) (G : Nat → Nat) {T : MS} {p1 : Int32} {v : Int32} {T' : MS} (h : m_post T p1 = some (v, T')) : jM κ yX2_post (ws_ yX2_post cX2_post 2 (some .int)) 1 0 0 [.ref (G 0), .int p1] (wM κ G T) (fun u w' => u = some (.int v) ∧ w' = wM κ G T') := by
  rw [m_post] at h
  refine jM.of (by decide) rfl (Nat.le_of_ble_eq_true rfl) fun Γ C _ => ?_
  show J κ Γ (1, 0, 0, (fun u w' => u = some (.int v) ∧ w' = wM κ G T')) 2 (wM κ G T) 0 0 0 [some (.ref (G 0)), some (.int p1)] []
  refine j_iload_n C dX2_post_0 rfl rfl ?_
  refine j_if_lt C dX2_post_1 (tgt := 22) (by decide) (fun c => ?_) (fun c => ?_)
  · replace h := ip c h
    refine j_iconst C (v := (-1)) dX2_post_22 rfl ?_
    obtain ⟨rfl, rfl⟩ := sp2 h
    exact j_iret C dX2_post_23 (Nat.zero_le _) (Nat.zero_le _) ⟨rfl, rfl⟩
  replace h := im c h
  refine j_iload_n C dX2_post_4 rfl rfl ?_
  refine j_bipush C (v := 100) dX2_post_5 rfl ?_
  refine j_idiv C dX2_post_7 (by decide) ?_
  refine j_bipush C (v := 15) dX2_post_8 rfl ?_
  refine j_icmp_gt C dX2_post_10 (tgt := 22) (by decide) (fun c => ?_) (fun c => ?_)
  · replace h := ip c h
    refine j_iconst C (v := (-1)) dX2_post_22 rfl ?_
    obtain ⟨rfl, rfl⟩ := sp2 h
    exact j_iret C dX2_post_23 (Nat.zero_le _) (Nat.zero_le _) ⟨rfl, rfl⟩
  replace h := im c h
  refine j_iload_n C dX2_post_13 rfl rfl ?_
  refine j_bipush C (v := 100) dX2_post_14 rfl ?_
  refine j_irem C dX2_post_16 (by decide) ?_
  refine j_bipush C (v := 15) dX2_post_17 rfl ?_
  refine j_icmp_le C dX2_post_19 (tgt := 24) (by decide) (fun c => ?_) (fun c => ?_)
  · replace h := ip c h
    refine j_aload_n C dX2_post_24 rfl rfl ?_
    refine jm_geti hκ C 0 (by decide) rfl q1637 dX2_post_25 ?_
    refine j_bipush C (v := 9) dX2_post_28 rfl ?_
    refine j_icmp_ne C dX2_post_30 (tgt := 38) (by decide) (fun c => ?_) (fun c => ?_)
    · replace h := im c h
      refine j_aload_n C dX2_post_38 rfl rfl ?_
      refine j_iload_n C dX2_post_39 rfl rfl ?_
      refine j_bipush C (v := 100) dX2_post_40 rfl ?_
      refine j_irem C dX2_post_42 (by decide) ?_
      refine j_iload_n C dX2_post_43 rfl rfl ?_
      refine j_bipush C (v := 100) dX2_post_44 rfl ?_
      refine j_idiv C dX2_post_46 (by decide) ?_
      refine j_iconst C (v := 1) dX2_post_47 rfl ?_
      obtain ⟨v2, T3, e1, h⟩ := ob2 h
      refine jm_Vi hκ C (mt_m_newPost hκ G e1) hG_m_newPost hy_m_newPost rfl rfl dX2_post_48 (jfit.of (Nat.le_of_ble_eq_true rfl) (by decide) (Nat.zero_le _) (Nat.zero_le _) (Nat.le_of_ble_eq_true rfl)) rfl ?_
      obtain ⟨rfl, rfl⟩ := sp2 h
      exact j_iret C dX2_post_51 (Nat.zero_le _) (Nat.zero_le _) ⟨rfl, rfl⟩
    replace h := ip c h
    refine j_bipush C (v := (-3)) dX2_post_33 rfl ?_
    refine j_goto C dX2_post_35 (tgt := 51) (by decide) ?_
    obtain ⟨rfl, rfl⟩ := sp2 h
    exact j_iret C dX2_post_51 (Nat.zero_le _) (Nat.zero_le _) ⟨rfl, rfl⟩
  replace h := im c h
  refine j_iconst C (v := (-1)) dX2_post_22 rfl ?_
  obtain ⟨rfl, rfl⟩ := sp2 h
  exact j_iret C dX2_post_23 (Nat.zero_le _) (Nat.zero_le _) ⟨rfl, rfl⟩
/-! within -/
def m_within (p1 : Int32) (p2 : Int32) (p3 : Int32) : Option Bool :=
  (if p1 < p2 then
  some false
  else
  (if p3 < p1 then
  some false
  else
  some true))
theorem mt_m_within {κ : jK} (hκ : jStd κ) {w : jW} {p1 : Int32} {p2 : Int32} {p3 : Int32} {v : Bool} (h : m_within p1 p2 p3 = some v) : jM κ yX2_within (ws_ yX2_within cX2_within 3 (some .boolean)) 0 0 0 [.int p1, .int p2, .int p3] (w) (fun u w' => u = some (.int (b2i v)) ∧ w' = w) := by
  rw [m_within] at h
  refine jM.of (by decide) rfl (Nat.le_of_ble_eq_true rfl) fun Γ C _ => ?_
  show J κ Γ (0, 0, 0, (fun u w' => u = some (.int (b2i v)) ∧ w' = w)) 3 (w) 0 0 0 [some (.int p1), some (.int p2), some (.int p3)] []
  refine j_iload_n C dX2_within_0 rfl rfl ?_
  refine j_iload_n C dX2_within_1 rfl rfl ?_
  refine j_icmp_lt C dX2_within_2 (tgt := 14) (by decide) (fun c => ?_) (fun c => ?_)
  · replace h := ip c h
    refine j_iconst C (v := 0) dX2_within_14 rfl ?_
    obtain rfl := sp1 h
    exact j_zret C rfl dX2_within_15 (Nat.zero_le _) (Nat.zero_le _) ⟨rfl, rfl⟩
  replace h := im c h
  refine j_iload_n C dX2_within_5 rfl rfl ?_
  refine j_iload_n C dX2_within_6 rfl rfl ?_
  refine j_icmp_gt C dX2_within_7 (tgt := 14) (by decide) (fun c => ?_) (fun c => ?_)
  · replace h := ip c h
    refine j_iconst C (v := 0) dX2_within_14 rfl ?_
    obtain rfl := sp1 h
    exact j_zret C rfl dX2_within_15 (Nat.zero_le _) (Nat.zero_le _) ⟨rfl, rfl⟩
  replace h := im c h
  refine j_iconst C (v := 1) dX2_within_10 rfl ?_
  refine j_goto C dX2_within_11 (tgt := 15) (by decide) ?_
  obtain rfl := sp1 h
  exact j_zret C rfl dX2_within_15 (Nat.zero_le _) (Nat.zero_le _) ⟨rfl, rfl⟩
/-! isShelf -/
def m_isShelf (p1 : Int32) : Option Bool :=
  (m_within p1 0 5).bind fun v2 =>
  some v2
theorem mt_m_isShelf {κ : jK} (hκ : jStd κ) {w : jW} {p1 : Int32} {v : Bool} (h : m_isShelf p1 = some v) : jM κ yX2_isShelf (ws_ yX2_isShelf cX2_isShelf 1 (some .boolean)) 1 0 0 [.int p1] (w) (fun u w' => u = some (.int (b2i v)) ∧ w' = w) := by
  rw [m_isShelf] at h
  refine jM.of (by decide) rfl (Nat.le_of_ble_eq_true rfl) fun Γ C _ => ?_
  show J κ Γ (1, 0, 0, (fun u w' => u = some (.int (b2i v)) ∧ w' = w)) 1 (w) 0 0 0 [some (.int p1)] []
  refine j_iload_n C dX2_isShelf_0 rfl rfl ?_
  refine j_iconst C (v := 0) dX2_isShelf_1 rfl ?_
  refine j_iconst C (v := 5) dX2_isShelf_2 rfl ?_
  obtain ⟨v2, e1, h⟩ := ob h
  refine j_Si hκ.1 C (mt_m_within hκ e1) hG_m_within hy_m_within rfl dX2_isShelf_3 (jfit.of (Nat.le_of_ble_eq_true rfl) (by decide) (Nat.zero_le _) (Nat.zero_le _) (Nat.le_of_ble_eq_true rfl)) rfl ?_
  obtain rfl := sp1 h
  exact j_zret C (b2i_z _) dX2_isShelf_6 (Nat.zero_le _) (Nat.zero_le _) ⟨rfl, rfl⟩
/-! posts -/
def m_posts_b49 (N : Nat) (l1 : Int32) (l2 : Int32) (l3 : Int32) : Nat → MS → Int32 → Int32 → Option (Int32 × MS)
  | 0, _, _, _ => none
  | n + 1, T, l4, l5 =>
    (if l3 ≤ l5 then
    some (l4, T)
    else
    nm (l2.toInt64 + (3 * l5.toInt64)) fun x1 =>
    (if (lg_cmp x1 0) < 0 then
    some (l4, T)
    else
    chk 6 l1 (
    (if 0 < (lg_cmp (x1 + 3) ((T.2.1 42 l1.toNatClampNeg).toInt64)) then
    some (l4, T)
    else
    (if (T.1 0) = 9 then
    some (l4, T)
    else
    nm ((60 * l1) + x1.toInt32) fun x3 =>
    chk 360 x3 (
    (m_within ((T.2.2 x3.toNatClampNeg).toInt32) 0 15).bind fun v6 =>
    (if (b2i v6) = 0 then
    some (l4, T)
    else
    chk 360 (x3 + 1) (
    (m_within ((T.2.2 (x3 + 1).toNatClampNeg).toInt32) 0 15).bind fun v9 =>
    (if (b2i v9) = 0 then
    some (l4, T)
    else
    chk 360 (x3 + 2) (
    (m_within ((T.2.2 (x3 + 2).toNatClampNeg).toInt32) 0 9).bind fun v12 =>
    (if (b2i v12) = 0 then
    some (l4, T)
    else
    chk 360 x3 (
    chk 360 (x3 + 1) (
    chk 360 (x3 + 2) (
    b2 (m_newPost T ((T.2.2 x3.toNatClampNeg).toInt32) ((T.2.2 (x3 + 1).toNatClampNeg).toInt32) ((T.2.2 (x3 + 2).toNatClampNeg).toInt32)) fun v17 T18 =>
    nm (l4 + 1) fun x19 =>
    nm (l5 + 1) fun x20 =>
    m_posts_b49 N l1 l2 l3 n T18 x19 x20))))))))))))))
theorem wm_posts_b49 {κ : jK} (hκ : jStd κ) (N : Nat) {Γ : jG} (C : jC κ Γ cX2_posts 9 RX2 (some .int)) {G : Nat → Nat} (l1 : Int32) (l2 : Int32) (l3 : Int32) {v : Int32} {T' : MS} : ∀ (n : Nat) (T : MS) (l4 : Int32) (l5 : Int32), m_posts_b49 N l1 l2 l3 n T l4 l5 = some (v, T') → J κ Γ (2, 0, 0, (fun u w' => u = some (.int v) ∧ w' = wM κ G T')) 9 (wM κ G T) 0 0 49 [some (.ref (G 0)), some (.int l1), some (.int l2), some (.int l3), some (.int l4), some (.int l5), none, none, none] [] := by
  intro n
  induction n with
  | zero => intro _ _ _ h; cases h
  | succ n ih =>
    intro T l4 l5 h
    rw [m_posts_b49] at h
    refine j_iload C dX2_posts_49 rfl ?_
    refine j_iload_n C dX2_posts_51 rfl rfl ?_
    refine j_icmp_ge C dX2_posts_52 (tgt := 213) (by decide) (fun c => ?_) (fun c => ?_)
    · replace h := ip c h
      refine j_iload C dX2_posts_213 rfl ?_
      obtain ⟨rfl, rfl⟩ := sp2 h
      exact j_iret C dX2_posts_215 (Nat.zero_le _) (Nat.zero_le _) ⟨rfl, rfl⟩
    replace h := im c h
    refine j_iload_n C dX2_posts_55 rfl rfl ?_
    refine j_i2l C dX2_posts_56 ?_
    refine j_ldc2 C (v := 3) dX2_posts_57 q1818 ?_
    refine j_iload C dX2_posts_60 rfl ?_
    refine j_i2l C dX2_posts_62 ?_
    refine j_lmul C dX2_posts_63 ?_
    refine j_ladd C dX2_posts_64 ?_
    refine j_nmJ h (fun x1 h => ?_)
    refine j_lstore C dX2_posts_65 (by decide) rfl ?_
    refine j_lload C dX2_posts_67 rfl ?_
    refine j_lconst C (v := 0) dX2_posts_69 rfl ?_
    refine j_lcmp C dX2_posts_70 ?_
    refine j_if_lt C dX2_posts_71 (tgt := 100) (by decide) (fun c => ?_) (fun c => ?_)
    · replace h := ip c h
      refine j_iload C dX2_posts_100 rfl ?_
      obtain ⟨rfl, rfl⟩ := sp2 h
      exact j_iret C dX2_posts_102 (Nat.zero_le _) (Nat.zero_le _) ⟨rfl, rfl⟩
    replace h := im c h
    refine j_lload C dX2_posts_74 rfl ?_
    refine j_ldc2 C (v := 3) dX2_posts_76 q1818 ?_
    refine j_ladd C dX2_posts_79 ?_
    refine j_aload_n C dX2_posts_80 rfl rfl ?_
    refine jm_geta hκ C 42 (by decide) rfl q1679 dX2_posts_81 ?_
    refine j_iload_n C dX2_posts_84 rfl rfl ?_
    obtain ⟨b2, h⟩ := chk_some h
    refine jm_iald hκ C 42 rfl b2 dX2_posts_85 ?_
    refine j_i2l C dX2_posts_86 ?_
    refine j_lcmp C dX2_posts_87 ?_
    refine j_if_gt C dX2_posts_88 (tgt := 100) (by decide) (fun c => ?_) (fun c => ?_)
    · replace h := ip c h
      refine j_iload C dX2_posts_100 rfl ?_
      obtain ⟨rfl, rfl⟩ := sp2 h
      exact j_iret C dX2_posts_102 (Nat.zero_le _) (Nat.zero_le _) ⟨rfl, rfl⟩
    replace h := im c h
    refine j_aload_n C dX2_posts_91 rfl rfl ?_
    refine jm_geti hκ C 0 (by decide) rfl q1637 dX2_posts_92 ?_
    refine j_bipush C (v := 9) dX2_posts_95 rfl ?_
    refine j_icmp_ne C dX2_posts_97 (tgt := 103) (by decide) (fun c => ?_) (fun c => ?_)
    · replace h := im c h
      refine j_bipush C (v := 60) dX2_posts_103 rfl ?_
      refine j_iload_n C dX2_posts_105 rfl rfl ?_
      refine j_imul C dX2_posts_106 ?_
      refine j_lload C dX2_posts_107 rfl ?_
      refine j_l2i C dX2_posts_109 ?_
      refine j_iadd C dX2_posts_110 ?_
      refine j_nmI h (fun x3 h => ?_)
      refine j_istore C dX2_posts_111 (by decide) rfl ?_
      refine j_aload_n C dX2_posts_113 rfl rfl ?_
      refine jm_geta hκ C 43 (by decide) rfl q1680 dX2_posts_114 ?_
      refine j_iload C dX2_posts_117 rfl ?_
      obtain ⟨b4, h⟩ := chk_some h
      refine jm_lald hκ C 43 rfl b4 dX2_posts_119 ?_
      refine j_l2i C dX2_posts_120 ?_
      refine j_iconst C (v := 0) dX2_posts_121 rfl ?_
      refine j_bipush C (v := 15) dX2_posts_122 rfl ?_
      obtain ⟨v6, e5, h⟩ := ob h
      refine j_Si hκ.1 C (mt_m_within hκ e5) hG_m_within hy_m_within rfl dX2_posts_124 (jfit.of (Nat.le_of_ble_eq_true rfl) (by decide) (Nat.zero_le _) (Nat.zero_le _) (Nat.le_of_ble_eq_true rfl)) rfl ?_
      refine j_if_eq C dX2_posts_127 (tgt := 168) (by decide) (fun c => ?_) (fun c => ?_)
      · replace h := ip c h
        refine j_iload C dX2_posts_168 rfl ?_
        obtain ⟨rfl, rfl⟩ := sp2 h
        exact j_iret C dX2_posts_170 (Nat.zero_le _) (Nat.zero_le _) ⟨rfl, rfl⟩
      replace h := im c h
      refine j_aload_n C dX2_posts_130 rfl rfl ?_
      refine jm_geta hκ C 43 (by decide) rfl q1680 dX2_posts_131 ?_
      refine j_iload C dX2_posts_134 rfl ?_
      refine j_iconst C (v := 1) dX2_posts_136 rfl ?_
      refine j_iadd C dX2_posts_137 ?_
      obtain ⟨b7, h⟩ := chk_some h
      refine jm_lald hκ C 43 rfl b7 dX2_posts_138 ?_
      refine j_l2i C dX2_posts_139 ?_
      refine j_iconst C (v := 0) dX2_posts_140 rfl ?_
      refine j_bipush C (v := 15) dX2_posts_141 rfl ?_
      obtain ⟨v9, e8, h⟩ := ob h
      refine j_Si hκ.1 C (mt_m_within hκ e8) hG_m_within hy_m_within rfl dX2_posts_143 (jfit.of (Nat.le_of_ble_eq_true rfl) (by decide) (Nat.zero_le _) (Nat.zero_le _) (Nat.le_of_ble_eq_true rfl)) rfl ?_
      refine j_if_eq C dX2_posts_146 (tgt := 168) (by decide) (fun c => ?_) (fun c => ?_)
      · replace h := ip c h
        refine j_iload C dX2_posts_168 rfl ?_
        obtain ⟨rfl, rfl⟩ := sp2 h
        exact j_iret C dX2_posts_170 (Nat.zero_le _) (Nat.zero_le _) ⟨rfl, rfl⟩
      replace h := im c h
      refine j_aload_n C dX2_posts_149 rfl rfl ?_
      refine jm_geta hκ C 43 (by decide) rfl q1680 dX2_posts_150 ?_
      refine j_iload C dX2_posts_153 rfl ?_
      refine j_iconst C (v := 2) dX2_posts_155 rfl ?_
      refine j_iadd C dX2_posts_156 ?_
      obtain ⟨b10, h⟩ := chk_some h
      refine jm_lald hκ C 43 rfl b10 dX2_posts_157 ?_
      refine j_l2i C dX2_posts_158 ?_
      refine j_iconst C (v := 0) dX2_posts_159 rfl ?_
      refine j_bipush C (v := 9) dX2_posts_160 rfl ?_
      obtain ⟨v12, e11, h⟩ := ob h
      refine j_Si hκ.1 C (mt_m_within hκ e11) hG_m_within hy_m_within rfl dX2_posts_162 (jfit.of (Nat.le_of_ble_eq_true rfl) (by decide) (Nat.zero_le _) (Nat.zero_le _) (Nat.le_of_ble_eq_true rfl)) rfl ?_
      refine j_if_ne C dX2_posts_165 (tgt := 171) (by decide) (fun c => ?_) (fun c => ?_)
      · replace h := im c h
        refine j_aload_n C dX2_posts_171 rfl rfl ?_
        refine j_aload_n C dX2_posts_172 rfl rfl ?_
        refine jm_geta hκ C 43 (by decide) rfl q1680 dX2_posts_173 ?_
        refine j_iload C dX2_posts_176 rfl ?_
        obtain ⟨b13, h⟩ := chk_some h
        refine jm_lald hκ C 43 rfl b13 dX2_posts_178 ?_
        refine j_l2i C dX2_posts_179 ?_
        refine j_aload_n C dX2_posts_180 rfl rfl ?_
        refine jm_geta hκ C 43 (by decide) rfl q1680 dX2_posts_181 ?_
        refine j_iload C dX2_posts_184 rfl ?_
        refine j_iconst C (v := 1) dX2_posts_186 rfl ?_
        refine j_iadd C dX2_posts_187 ?_
        obtain ⟨b14, h⟩ := chk_some h
        refine jm_lald hκ C 43 rfl b14 dX2_posts_188 ?_
        refine j_l2i C dX2_posts_189 ?_
        refine j_aload_n C dX2_posts_190 rfl rfl ?_
        refine jm_geta hκ C 43 (by decide) rfl q1680 dX2_posts_191 ?_
        refine j_iload C dX2_posts_194 rfl ?_
        refine j_iconst C (v := 2) dX2_posts_196 rfl ?_
        refine j_iadd C dX2_posts_197 ?_
        obtain ⟨b15, h⟩ := chk_some h
        refine jm_lald hκ C 43 rfl b15 dX2_posts_198 ?_
        refine j_l2i C dX2_posts_199 ?_
        obtain ⟨v17, T18, e16, h⟩ := ob2 h
        refine jm_Vi hκ C (mt_m_newPost hκ G e16) hG_m_newPost hy_m_newPost rfl rfl dX2_posts_200 (jfit.of (Nat.le_of_ble_eq_true rfl) (by decide) (Nat.zero_le _) (Nat.zero_le _) (Nat.le_of_ble_eq_true rfl)) rfl ?_
        refine j_pop C dX2_posts_203 rfl ?_
        refine j_iincN C h dX2_posts_204 rfl rfl (by decide) rfl (fun x19 h => ?_)
        refine j_iincN C h dX2_posts_207 rfl rfl (by decide) rfl (fun x20 h => ?_)
        refine j_goto C dX2_posts_210 (tgt := 49) (by decide) ?_
        exact j_sub (ih _ _ _ h) ⟨rfl, ⟨rfl, ⟨rfl, ⟨rfl, ⟨rfl, ⟨rfl, trivial⟩⟩⟩⟩⟩⟩
      replace h := ip c h
      refine j_iload C dX2_posts_168 rfl ?_
      obtain ⟨rfl, rfl⟩ := sp2 h
      exact j_iret C dX2_posts_170 (Nat.zero_le _) (Nat.zero_le _) ⟨rfl, rfl⟩
    replace h := ip c h
    refine j_iload C dX2_posts_100 rfl ?_
    obtain ⟨rfl, rfl⟩ := sp2 h
    exact j_iret C dX2_posts_102 (Nat.zero_le _) (Nat.zero_le _) ⟨rfl, rfl⟩
def m_posts (N : Nat) (T : MS) (p1 : Int32) (p2 : Int32) (p3 : Int32) : Option (Int32 × MS) :=
  (m_isShelf p1).bind fun v2 =>
  (if (b2i v2) = 0 then
  some ((-1), T)
  else
  (m_within p3 1 9).bind fun v4 =>
  (if (b2i v4) = 0 then
  some ((-1), T)
  else
  chk 6 p1 (
  (if (T.2.1 41 p1.toNatClampNeg) = (-1) then
  some (0, T)
  else
  chk 6 p1 (
  (if (T.2.1 41 p1.toNatClampNeg) = 0 then
  m_posts_b49 N p1 p2 p3 N T 0 0
  else
  some ((-12), T)))))))
theorem mt_m_posts {κ : jK} (hκ : jStd κ) (N : Nat) (G : Nat → Nat) {T : MS} {p1 : Int32} {p2 : Int32} {p3 : Int32} {v : Int32} {T' : MS} (h : m_posts N T p1 p2 p3 = some (v, T')) : jM κ yX2_posts (ws_ yX2_posts cX2_posts 9 (some .int)) 2 0 0 [.ref (G 0), .int p1, .int p2, .int p3] (wM κ G T) (fun u w' => u = some (.int v) ∧ w' = wM κ G T') := by
  rw [m_posts] at h
  refine jM.of (by decide) rfl (Nat.le_of_ble_eq_true rfl) fun Γ C _ => ?_
  show J κ Γ (2, 0, 0, (fun u w' => u = some (.int v) ∧ w' = wM κ G T')) 9 (wM κ G T) 0 0 0 [some (.ref (G 0)), some (.int p1), some (.int p2), some (.int p3), none, none, none, none, none] []
  refine j_iload_n C dX2_posts_0 rfl rfl ?_
  obtain ⟨v2, e1, h⟩ := ob h
  refine j_Si hκ.1 C (mt_m_isShelf hκ e1) hG_m_isShelf hy_m_isShelf rfl dX2_posts_1 (jfit.of (Nat.le_of_ble_eq_true rfl) (by decide) (Nat.zero_le _) (Nat.zero_le _) (Nat.le_of_ble_eq_true rfl)) rfl ?_
  refine j_if_eq C dX2_posts_4 (tgt := 17) (by decide) (fun c => ?_) (fun c => ?_)
  · replace h := ip c h
    refine j_iconst C (v := (-1)) dX2_posts_17 rfl ?_
    obtain ⟨rfl, rfl⟩ := sp2 h
    exact j_iret C dX2_posts_18 (Nat.zero_le _) (Nat.zero_le _) ⟨rfl, rfl⟩
  replace h := im c h
  refine j_iload_n C dX2_posts_7 rfl rfl ?_
  refine j_iconst C (v := 1) dX2_posts_8 rfl ?_
  refine j_bipush C (v := 9) dX2_posts_9 rfl ?_
  obtain ⟨v4, e3, h⟩ := ob h
  refine j_Si hκ.1 C (mt_m_within hκ e3) hG_m_within hy_m_within rfl dX2_posts_11 (jfit.of (Nat.le_of_ble_eq_true rfl) (by decide) (Nat.zero_le _) (Nat.zero_le _) (Nat.le_of_ble_eq_true rfl)) rfl ?_
  refine j_if_ne C dX2_posts_14 (tgt := 19) (by decide) (fun c => ?_) (fun c => ?_)
  · replace h := im c h
    refine j_aload_n C dX2_posts_19 rfl rfl ?_
    refine jm_geta hκ C 41 (by decide) rfl q1678 dX2_posts_20 ?_
    refine j_iload_n C dX2_posts_23 rfl rfl ?_
    obtain ⟨b5, h⟩ := chk_some h
    refine jm_iald hκ C 41 rfl b5 dX2_posts_24 ?_
    refine j_iconst C (v := (-1)) dX2_posts_25 rfl ?_
    refine j_icmp_ne C dX2_posts_26 (tgt := 31) (by decide) (fun c => ?_) (fun c => ?_)
    · replace h := im c h
      refine j_aload_n C dX2_posts_31 rfl rfl ?_
      refine jm_geta hκ C 41 (by decide) rfl q1678 dX2_posts_32 ?_
      refine j_iload_n C dX2_posts_35 rfl rfl ?_
      obtain ⟨b6, h⟩ := chk_some h
      refine jm_iald hκ C 41 rfl b6 dX2_posts_36 ?_
      refine j_if_eq C dX2_posts_37 (tgt := 43) (by decide) (fun c => ?_) (fun c => ?_)
      · replace h := ip c h
        refine j_iconst C (v := 0) dX2_posts_43 rfl ?_
        refine j_istore C dX2_posts_44 (by decide) rfl ?_
        refine j_iconst C (v := 0) dX2_posts_46 rfl ?_
        refine j_istore C dX2_posts_47 (by decide) rfl ?_
        exact j_sub (wm_posts_b49 hκ N C _ _ _ N _ _ _ h) ⟨rfl, ⟨rfl, ⟨rfl, ⟨rfl, ⟨rfl, ⟨rfl, trivial⟩⟩⟩⟩⟩⟩
      replace h := im c h
      refine j_bipush C (v := (-12)) dX2_posts_40 rfl ?_
      obtain ⟨rfl, rfl⟩ := sp2 h
      exact j_iret C dX2_posts_42 (Nat.zero_le _) (Nat.zero_le _) ⟨rfl, rfl⟩
    replace h := ip c h
    refine j_iconst C (v := 0) dX2_posts_29 rfl ?_
    obtain ⟨rfl, rfl⟩ := sp2 h
    exact j_iret C dX2_posts_30 (Nat.zero_le _) (Nat.zero_le _) ⟨rfl, rfl⟩
  replace h := ip c h
  refine j_iconst C (v := (-1)) dX2_posts_17 rfl ?_
  obtain ⟨rfl, rfl⟩ := sp2 h
  exact j_iret C dX2_posts_18 (Nat.zero_le _) (Nat.zero_le _) ⟨rfl, rfl⟩
/-! becomes -/
def m_becomes (T : MS) (p1 : Int32) (p2 : Int32) (p3 : Int32) : Option MS :=
  (if p2 = 0 then
  chk 9 p1 (
  nm (sA T 1 p1.toNatClampNeg p3) fun T1 =>
  some T1)
  else if p2 = 1 then
  chk 9 p1 (
  nm (sA T 2 p1.toNatClampNeg p3) fun T3 =>
  some T3)
  else if p2 = 2 then
  chk 9 p1 (
  nm (sA T 3 p1.toNatClampNeg p3) fun T5 =>
  some T5)
  else if p2 = 3 then
  chk 9 p1 (
  nm (sA T 4 p1.toNatClampNeg p3) fun T7 =>
  some T7)
  else 
  chk 4 (p2 - 4) (
  nm (sA T 5 (p2 - 4).toNatClampNeg p3) fun T9 =>
  some T9))
theorem mt_m_becomes {κ : jK} (hκ : jStd κ) (G : Nat → Nat) {T : MS} {p1 : Int32} {p2 : Int32} {p3 : Int32} {T' : MS} (h : m_becomes T p1 p2 p3 = some T') : jM κ yX2_becomes (ws_ yX2_becomes cX2_becomes 4 none) 0 0 0 [.ref (G 0), .int p1, .int p2, .int p3] (wM κ G T) (fun u w' => u = none ∧ w' = wM κ G T') := by
  rw [m_becomes] at h
  refine jM.of (by decide) rfl (Nat.le_of_ble_eq_true rfl) fun Γ C _ => ?_
  show J κ Γ (0, 0, 0, (fun u w' => u = none ∧ w' = wM κ G T')) 4 (wM κ G T) 0 0 0 [some (.ref (G 0)), some (.int p1), some (.int p2), some (.int p3)] []
  refine j_iload_n C dX2_becomes_0 rfl rfl ?_
  by_cases c1_0 : p2 = 0
  · replace h := ip c1_0 h
    refine j_tabEq C dX2_becomes_1 c1_0 (a := 0) rfl (by decide) (by decide) rfl (tgt := 32) (by decide) ?_
    refine j_aload_n C dX2_becomes_32 rfl rfl ?_
    refine jm_geta hκ C 1 (by decide) rfl q1638 dX2_becomes_33 ?_
    refine j_iload_n C dX2_becomes_36 rfl rfl ?_
    refine j_iload_n C dX2_becomes_37 rfl rfl ?_
    obtain ⟨b2, h⟩ := chk_some h
    refine jm_iast hκ C 1 rfl b2 dX2_becomes_38 ?_
    refine jm_nmT h (fun T1 h => ?_)
    obtain rfl := sp1 h
    exact j_vret C dX2_becomes_39 (Nat.zero_le _) (Nat.zero_le _) ⟨rfl, rfl⟩
  replace h := im c1_0 h
  by_cases c1_1 : p2 = 1
  · replace h := ip c1_1 h
    refine j_tabEq C dX2_becomes_1 c1_1 (a := 1) rfl (by decide) (by decide) rfl (tgt := 40) (by decide) ?_
    refine j_aload_n C dX2_becomes_40 rfl rfl ?_
    refine jm_geta hκ C 2 (by decide) rfl q1639 dX2_becomes_41 ?_
    refine j_iload_n C dX2_becomes_44 rfl rfl ?_
    refine j_iload_n C dX2_becomes_45 rfl rfl ?_
    obtain ⟨b4, h⟩ := chk_some h
    refine jm_iast hκ C 2 rfl b4 dX2_becomes_46 ?_
    refine jm_nmT h (fun T3 h => ?_)
    obtain rfl := sp1 h
    exact j_vret C dX2_becomes_47 (Nat.zero_le _) (Nat.zero_le _) ⟨rfl, rfl⟩
  replace h := im c1_1 h
  by_cases c1_2 : p2 = 2
  · replace h := ip c1_2 h
    refine j_tabEq C dX2_becomes_1 c1_2 (a := 2) rfl (by decide) (by decide) rfl (tgt := 48) (by decide) ?_
    refine j_aload_n C dX2_becomes_48 rfl rfl ?_
    refine jm_geta hκ C 3 (by decide) rfl q1640 dX2_becomes_49 ?_
    refine j_iload_n C dX2_becomes_52 rfl rfl ?_
    refine j_iload_n C dX2_becomes_53 rfl rfl ?_
    obtain ⟨b6, h⟩ := chk_some h
    refine jm_iast hκ C 3 rfl b6 dX2_becomes_54 ?_
    refine jm_nmT h (fun T5 h => ?_)
    obtain rfl := sp1 h
    exact j_vret C dX2_becomes_55 (Nat.zero_le _) (Nat.zero_le _) ⟨rfl, rfl⟩
  replace h := im c1_2 h
  by_cases c1_3 : p2 = 3
  · replace h := ip c1_3 h
    refine j_tabEq C dX2_becomes_1 c1_3 (a := 3) rfl (by decide) (by decide) rfl (tgt := 56) (by decide) ?_
    refine j_aload_n C dX2_becomes_56 rfl rfl ?_
    refine jm_geta hκ C 4 (by decide) rfl q1641 dX2_becomes_57 ?_
    refine j_iload_n C dX2_becomes_60 rfl rfl ?_
    refine j_iload_n C dX2_becomes_61 rfl rfl ?_
    obtain ⟨b8, h⟩ := chk_some h
    refine jm_iast hκ C 4 rfl b8 dX2_becomes_62 ?_
    refine jm_nmT h (fun T7 h => ?_)
    obtain rfl := sp1 h
    exact j_vret C dX2_becomes_63 (Nat.zero_le _) (Nat.zero_le _) ⟨rfl, rfl⟩
  replace h := im c1_3 h
  refine j_tabDef C [0, 1, 2, 3] dX2_becomes_1 ⟨tab_ne c1_0 rfl, tab_ne c1_1 rfl, tab_ne c1_2 rfl, tab_ne c1_3 rfl, trivial⟩ rfl rfl (tgt := 64) (by decide) ?_
  refine j_aload_n C dX2_becomes_64 rfl rfl ?_
  refine jm_geta hκ C 5 (by decide) rfl q1642 dX2_becomes_65 ?_
  refine j_iload_n C dX2_becomes_68 rfl rfl ?_
  refine j_iconst C (v := 4) dX2_becomes_69 rfl ?_
  refine j_isub C dX2_becomes_70 ?_
  refine j_iload_n C dX2_becomes_71 rfl rfl ?_
  obtain ⟨b10, h⟩ := chk_some h
  refine jm_iast hκ C 5 rfl b10 dX2_becomes_72 ?_
  refine jm_nmT h (fun T9 h => ?_)
  obtain rfl := sp1 h
  exact j_vret C dX2_becomes_73 (Nat.zero_le _) (Nat.zero_le _) ⟨rfl, rfl⟩
/-! get -/
def m_get (T : MS) (p1 : Int32) (p2 : Int32) : Option Int32 :=
  (if p2 = 0 then
  chk 9 p1 (
  some (T.2.1 1 p1.toNatClampNeg))
  else if p2 = 1 then
  chk 9 p1 (
  some (T.2.1 2 p1.toNatClampNeg))
  else if p2 = 2 then
  chk 9 p1 (
  some (T.2.1 3 p1.toNatClampNeg))
  else if p2 = 3 then
  chk 9 p1 (
  some (T.2.1 4 p1.toNatClampNeg))
  else 
  chk 4 (p2 - 4) (
  some (T.2.1 5 (p2 - 4).toNatClampNeg)))
theorem mt_m_get {κ : jK} (hκ : jStd κ) (G : Nat → Nat) {T : MS} {p1 : Int32} {p2 : Int32} {v : Int32} (h : m_get T p1 p2 = some v) : jM κ yX2_get (ws_ yX2_get cX2_get 3 (some .int)) 0 0 0 [.ref (G 0), .int p1, .int p2] (wM κ G T) (fun u w' => u = some (.int v) ∧ w' = wM κ G T) := by
  rw [m_get] at h
  refine jM.of (by decide) rfl (Nat.le_of_ble_eq_true rfl) fun Γ C _ => ?_
  show J κ Γ (0, 0, 0, (fun u w' => u = some (.int v) ∧ w' = wM κ G T)) 3 (wM κ G T) 0 0 0 [some (.ref (G 0)), some (.int p1), some (.int p2)] []
  refine j_iload_n C dX2_get_0 rfl rfl ?_
  by_cases c1_0 : p2 = 0
  · replace h := ip c1_0 h
    refine j_tabEq C dX2_get_1 c1_0 (a := 0) rfl (by decide) (by decide) rfl (tgt := 32) (by decide) ?_
    refine j_aload_n C dX2_get_32 rfl rfl ?_
    refine jm_geta hκ C 1 (by decide) rfl q1638 dX2_get_33 ?_
    refine j_iload_n C dX2_get_36 rfl rfl ?_
    obtain ⟨b1, h⟩ := chk_some h
    refine jm_iald hκ C 1 rfl b1 dX2_get_37 ?_
    obtain rfl := sp1 h
    exact j_iret C dX2_get_38 (Nat.zero_le _) (Nat.zero_le _) ⟨rfl, rfl⟩
  replace h := im c1_0 h
  by_cases c1_1 : p2 = 1
  · replace h := ip c1_1 h
    refine j_tabEq C dX2_get_1 c1_1 (a := 1) rfl (by decide) (by decide) rfl (tgt := 39) (by decide) ?_
    refine j_aload_n C dX2_get_39 rfl rfl ?_
    refine jm_geta hκ C 2 (by decide) rfl q1639 dX2_get_40 ?_
    refine j_iload_n C dX2_get_43 rfl rfl ?_
    obtain ⟨b2, h⟩ := chk_some h
    refine jm_iald hκ C 2 rfl b2 dX2_get_44 ?_
    obtain rfl := sp1 h
    exact j_iret C dX2_get_45 (Nat.zero_le _) (Nat.zero_le _) ⟨rfl, rfl⟩
  replace h := im c1_1 h
  by_cases c1_2 : p2 = 2
  · replace h := ip c1_2 h
    refine j_tabEq C dX2_get_1 c1_2 (a := 2) rfl (by decide) (by decide) rfl (tgt := 46) (by decide) ?_
    refine j_aload_n C dX2_get_46 rfl rfl ?_
    refine jm_geta hκ C 3 (by decide) rfl q1640 dX2_get_47 ?_
    refine j_iload_n C dX2_get_50 rfl rfl ?_
    obtain ⟨b3, h⟩ := chk_some h
    refine jm_iald hκ C 3 rfl b3 dX2_get_51 ?_
    obtain rfl := sp1 h
    exact j_iret C dX2_get_52 (Nat.zero_le _) (Nat.zero_le _) ⟨rfl, rfl⟩
  replace h := im c1_2 h
  by_cases c1_3 : p2 = 3
  · replace h := ip c1_3 h
    refine j_tabEq C dX2_get_1 c1_3 (a := 3) rfl (by decide) (by decide) rfl (tgt := 53) (by decide) ?_
    refine j_aload_n C dX2_get_53 rfl rfl ?_
    refine jm_geta hκ C 4 (by decide) rfl q1641 dX2_get_54 ?_
    refine j_iload_n C dX2_get_57 rfl rfl ?_
    obtain ⟨b4, h⟩ := chk_some h
    refine jm_iald hκ C 4 rfl b4 dX2_get_58 ?_
    obtain rfl := sp1 h
    exact j_iret C dX2_get_59 (Nat.zero_le _) (Nat.zero_le _) ⟨rfl, rfl⟩
  replace h := im c1_3 h
  refine j_tabDef C [0, 1, 2, 3] dX2_get_1 ⟨tab_ne c1_0 rfl, tab_ne c1_1 rfl, tab_ne c1_2 rfl, tab_ne c1_3 rfl, trivial⟩ rfl rfl (tgt := 60) (by decide) ?_
  refine j_aload_n C dX2_get_60 rfl rfl ?_
  refine jm_geta hκ C 5 (by decide) rfl q1642 dX2_get_61 ?_
  refine j_iload_n C dX2_get_64 rfl rfl ?_
  refine j_iconst C (v := 4) dX2_get_65 rfl ?_
  refine j_isub C dX2_get_66 ?_
  obtain ⟨b5, h⟩ := chk_some h
  refine jm_iald hκ C 5 rfl b5 dX2_get_67 ?_
  obtain rfl := sp1 h
  exact j_iret C dX2_get_68 (Nat.zero_le _) (Nat.zero_le _) ⟨rfl, rfl⟩
/-! isFit -/
def m_isFit (p1 : Int32) (p2 : Int32) : Option Bool :=
  (if p1 = 2 then
  (m_within p2 0 9).bind fun v2 =>
  some v2
  else if p1 = 3 then
  (m_within p2 1 999).bind fun v4 =>
  some v4
  else if p1 = 6 then
  (m_within p2 1 9).bind fun v6 =>
  some v6
  else if p1 = 7 then
  (m_within p2 0 9).bind fun v8 =>
  some v8
  else 
  (m_within p2 0 15).bind fun v10 =>
  some v10)
theorem mt_m_isFit {κ : jK} (hκ : jStd κ) {w : jW} {p1 : Int32} {p2 : Int32} {v : Bool} (h : m_isFit p1 p2 = some v) : jM κ yX2_isFit (ws_ yX2_isFit cX2_isFit 2 (some .boolean)) 1 0 0 [.int p1, .int p2] (w) (fun u w' => u = some (.int (b2i v)) ∧ w' = w) := by
  rw [m_isFit] at h
  refine jM.of (by decide) rfl (Nat.le_of_ble_eq_true rfl) fun Γ C _ => ?_
  show J κ Γ (1, 0, 0, (fun u w' => u = some (.int (b2i v)) ∧ w' = w)) 2 (w) 0 0 0 [some (.int p1), some (.int p2)] []
  refine j_iload_n C dX2_isFit_0 rfl rfl ?_
  by_cases c1_0 : p1 = 2
  · replace h := ip c1_0 h
    refine j_tabEq C dX2_isFit_1 c1_0 (a := 2) rfl (by decide) (by decide) rfl (tgt := 40) (by decide) ?_
    refine j_iload_n C dX2_isFit_40 rfl rfl ?_
    refine j_iconst C (v := 0) dX2_isFit_41 rfl ?_
    refine j_bipush C (v := 9) dX2_isFit_42 rfl ?_
    obtain ⟨v2, e1, h⟩ := ob h
    refine j_Si hκ.1 C (mt_m_within hκ e1) hG_m_within hy_m_within rfl dX2_isFit_44 (jfit.of (Nat.le_of_ble_eq_true rfl) (by decide) (Nat.zero_le _) (Nat.zero_le _) (Nat.le_of_ble_eq_true rfl)) rfl ?_
    obtain rfl := sp1 h
    exact j_zret C (b2i_z _) dX2_isFit_47 (Nat.zero_le _) (Nat.zero_le _) ⟨rfl, rfl⟩
  replace h := im c1_0 h
  by_cases c1_1 : p1 = 3
  · replace h := ip c1_1 h
    refine j_tabEq C dX2_isFit_1 c1_1 (a := 3) rfl (by decide) (by decide) rfl (tgt := 48) (by decide) ?_
    refine j_iload_n C dX2_isFit_48 rfl rfl ?_
    refine j_iconst C (v := 1) dX2_isFit_49 rfl ?_
    refine j_sipush C (v := 999) dX2_isFit_50 rfl ?_
    obtain ⟨v4, e3, h⟩ := ob h
    refine j_Si hκ.1 C (mt_m_within hκ e3) hG_m_within hy_m_within rfl dX2_isFit_53 (jfit.of (Nat.le_of_ble_eq_true rfl) (by decide) (Nat.zero_le _) (Nat.zero_le _) (Nat.le_of_ble_eq_true rfl)) rfl ?_
    obtain rfl := sp1 h
    exact j_zret C (b2i_z _) dX2_isFit_56 (Nat.zero_le _) (Nat.zero_le _) ⟨rfl, rfl⟩
  replace h := im c1_1 h
  by_cases c1_2 : p1 = 6
  · replace h := ip c1_2 h
    refine j_tabEq C dX2_isFit_1 c1_2 (a := 6) rfl (by decide) (by decide) rfl (tgt := 57) (by decide) ?_
    refine j_iload_n C dX2_isFit_57 rfl rfl ?_
    refine j_iconst C (v := 1) dX2_isFit_58 rfl ?_
    refine j_bipush C (v := 9) dX2_isFit_59 rfl ?_
    obtain ⟨v6, e5, h⟩ := ob h
    refine j_Si hκ.1 C (mt_m_within hκ e5) hG_m_within hy_m_within rfl dX2_isFit_61 (jfit.of (Nat.le_of_ble_eq_true rfl) (by decide) (Nat.zero_le _) (Nat.zero_le _) (Nat.le_of_ble_eq_true rfl)) rfl ?_
    obtain rfl := sp1 h
    exact j_zret C (b2i_z _) dX2_isFit_64 (Nat.zero_le _) (Nat.zero_le _) ⟨rfl, rfl⟩
  replace h := im c1_2 h
  by_cases c1_3 : p1 = 7
  · replace h := ip c1_3 h
    refine j_tabEq C dX2_isFit_1 c1_3 (a := 7) rfl (by decide) (by decide) rfl (tgt := 40) (by decide) ?_
    refine j_iload_n C dX2_isFit_40 rfl rfl ?_
    refine j_iconst C (v := 0) dX2_isFit_41 rfl ?_
    refine j_bipush C (v := 9) dX2_isFit_42 rfl ?_
    obtain ⟨v8, e7, h⟩ := ob h
    refine j_Si hκ.1 C (mt_m_within hκ e7) hG_m_within hy_m_within rfl dX2_isFit_44 (jfit.of (Nat.le_of_ble_eq_true rfl) (by decide) (Nat.zero_le _) (Nat.zero_le _) (Nat.le_of_ble_eq_true rfl)) rfl ?_
    obtain rfl := sp1 h
    exact j_zret C (b2i_z _) dX2_isFit_47 (Nat.zero_le _) (Nat.zero_le _) ⟨rfl, rfl⟩
  replace h := im c1_3 h
  refine j_tabDef C [2, 3, 6, 7] dX2_isFit_1 ⟨tab_ne c1_0 rfl, tab_ne c1_1 rfl, tab_ne c1_2 rfl, tab_ne c1_3 rfl, trivial⟩ rfl rfl (tgt := 65) (by decide) ?_
  refine j_iload_n C dX2_isFit_65 rfl rfl ?_
  refine j_iconst C (v := 0) dX2_isFit_66 rfl ?_
  refine j_bipush C (v := 15) dX2_isFit_67 rfl ?_
  obtain ⟨v10, e9, h⟩ := ob h
  refine j_Si hκ.1 C (mt_m_within hκ e9) hG_m_within hy_m_within rfl dX2_isFit_69 (jfit.of (Nat.le_of_ble_eq_true rfl) (by decide) (Nat.zero_le _) (Nat.zero_le _) (Nat.le_of_ble_eq_true rfl)) rfl ?_
  obtain rfl := sp1 h
  exact j_zret C (b2i_z _) dX2_isFit_72 (Nat.zero_le _) (Nat.zero_le _) ⟨rfl, rfl⟩
/-! isPost -/
def m_isPost (T : MS) (p1 : Int64) : Option Bool :=
  (if (lg_cmp p1 0) < 0 then
  some false
  else
  (if 0 ≤ (lg_cmp p1 ((T.1 0).toInt64)) then
  some false
  else
  some true))
theorem mt_m_isPost {κ : jK} (hκ : jStd κ) (G : Nat → Nat) {T : MS} {p1 : Int64} {v : Bool} (h : m_isPost T p1 = some v) : jM κ yX2_isPost (ws_ yX2_isPost cX2_isPost 3 (some .boolean)) 0 0 0 [.ref (G 0), .long p1] (wM κ G T) (fun u w' => u = some (.int (b2i v)) ∧ w' = wM κ G T) := by
  rw [m_isPost] at h
  refine jM.of (by decide) rfl (Nat.le_of_ble_eq_true rfl) fun Γ C _ => ?_
  show J κ Γ (0, 0, 0, (fun u w' => u = some (.int (b2i v)) ∧ w' = wM κ G T)) 3 (wM κ G T) 0 0 0 [some (.ref (G 0)), some (.long p1), none] []
  refine j_lload_n C dX2_isPost_0 rfl rfl ?_
  refine j_lconst C (v := 0) dX2_isPost_1 rfl ?_
  refine j_lcmp C dX2_isPost_2 ?_
  refine j_if_lt C dX2_isPost_3 (tgt := 20) (by decide) (fun c => ?_) (fun c => ?_)
  · replace h := ip c h
    refine j_iconst C (v := 0) dX2_isPost_20 rfl ?_
    obtain rfl := sp1 h
    exact j_zret C rfl dX2_isPost_21 (Nat.zero_le _) (Nat.zero_le _) ⟨rfl, rfl⟩
  replace h := im c h
  refine j_lload_n C dX2_isPost_6 rfl rfl ?_
  refine j_aload_n C dX2_isPost_7 rfl rfl ?_
  refine jm_geti hκ C 0 (by decide) rfl q1637 dX2_isPost_8 ?_
  refine j_i2l C dX2_isPost_11 ?_
  refine j_lcmp C dX2_isPost_12 ?_
  refine j_if_ge C dX2_isPost_13 (tgt := 20) (by decide) (fun c => ?_) (fun c => ?_)
  · replace h := ip c h
    refine j_iconst C (v := 0) dX2_isPost_20 rfl ?_
    obtain rfl := sp1 h
    exact j_zret C rfl dX2_isPost_21 (Nat.zero_le _) (Nat.zero_le _) ⟨rfl, rfl⟩
  replace h := im c h
  refine j_iconst C (v := 1) dX2_isPost_16 rfl ?_
  refine j_goto C dX2_isPost_17 (tgt := 21) (by decide) ?_
  obtain rfl := sp1 h
  exact j_zret C rfl dX2_isPost_21 (Nat.zero_le _) (Nat.zero_le _) ⟨rfl, rfl⟩
/-! isOf -/
def m_isOf (T : MS) (p1 : Int32) (p2 : Int32) : Option Bool :=
  (m_within p2 0 3).bind fun v2 =>
  (if (b2i v2) = 0 then
  (m_within p2 4 7).bind fun v4 =>
  (if (b2i v4) = 0 then
  some false
  else
  (if p1 = 0 then
  some true
  else
  some false))
  else
  (m_isPost T p1.toInt64).bind fun v6 =>
  some v6)
theorem mt_m_isOf {κ : jK} (hκ : jStd κ) (G : Nat → Nat) {T : MS} {p1 : Int32} {p2 : Int32} {v : Bool} (h : m_isOf T p1 p2 = some v) : jM κ yX2_isOf (ws_ yX2_isOf cX2_isOf 3 (some .boolean)) 1 0 0 [.ref (G 0), .int p1, .int p2] (wM κ G T) (fun u w' => u = some (.int (b2i v)) ∧ w' = wM κ G T) := by
  rw [m_isOf] at h
  refine jM.of (by decide) rfl (Nat.le_of_ble_eq_true rfl) fun Γ C _ => ?_
  show J κ Γ (1, 0, 0, (fun u w' => u = some (.int (b2i v)) ∧ w' = wM κ G T)) 3 (wM κ G T) 0 0 0 [some (.ref (G 0)), some (.int p1), some (.int p2)] []
  refine j_iload_n C dX2_isOf_0 rfl rfl ?_
  refine j_iconst C (v := 0) dX2_isOf_1 rfl ?_
  refine j_iconst C (v := 3) dX2_isOf_2 rfl ?_
  obtain ⟨v2, e1, h⟩ := ob h
  refine j_Si hκ.1 C (mt_m_within hκ e1) hG_m_within hy_m_within rfl dX2_isOf_3 (jfit.of (Nat.le_of_ble_eq_true rfl) (by decide) (Nat.zero_le _) (Nat.zero_le _) (Nat.le_of_ble_eq_true rfl)) rfl ?_
  refine j_if_eq C dX2_isOf_6 (tgt := 18) (by decide) (fun c => ?_) (fun c => ?_)
  · replace h := ip c h
    refine j_iload_n C dX2_isOf_18 rfl rfl ?_
    refine j_iconst C (v := 4) dX2_isOf_19 rfl ?_
    refine j_bipush C (v := 7) dX2_isOf_20 rfl ?_
    obtain ⟨v4, e3, h⟩ := ob h
    refine j_Si hκ.1 C (mt_m_within hκ e3) hG_m_within hy_m_within rfl dX2_isOf_22 (jfit.of (Nat.le_of_ble_eq_true rfl) (by decide) (Nat.zero_le _) (Nat.zero_le _) (Nat.le_of_ble_eq_true rfl)) rfl ?_
    refine j_if_eq C dX2_isOf_25 (tgt := 36) (by decide) (fun c => ?_) (fun c => ?_)
    · replace h := ip c h
      refine j_iconst C (v := 0) dX2_isOf_36 rfl ?_
      obtain rfl := sp1 h
      exact j_zret C rfl dX2_isOf_37 (Nat.zero_le _) (Nat.zero_le _) ⟨rfl, rfl⟩
    replace h := im c h
    refine j_iload_n C dX2_isOf_28 rfl rfl ?_
    refine j_if_ne C dX2_isOf_29 (tgt := 36) (by decide) (fun c => ?_) (fun c => ?_)
    · replace h := im c h
      refine j_iconst C (v := 0) dX2_isOf_36 rfl ?_
      obtain rfl := sp1 h
      exact j_zret C rfl dX2_isOf_37 (Nat.zero_le _) (Nat.zero_le _) ⟨rfl, rfl⟩
    replace h := ip c h
    refine j_iconst C (v := 1) dX2_isOf_32 rfl ?_
    refine j_goto C dX2_isOf_33 (tgt := 37) (by decide) ?_
    obtain rfl := sp1 h
    exact j_zret C rfl dX2_isOf_37 (Nat.zero_le _) (Nat.zero_le _) ⟨rfl, rfl⟩
  replace h := im c h
  refine j_aload_n C dX2_isOf_9 rfl rfl ?_
  refine j_iload_n C dX2_isOf_10 rfl rfl ?_
  refine j_i2l C dX2_isOf_11 ?_
  obtain ⟨v6, e5, h⟩ := ob h
  refine jm_Vi hκ C (mt_m_isPost hκ G e5) hG_m_isPost hy_m_isPost rfl rfl dX2_isOf_12 (jfit.of (Nat.le_of_ble_eq_true rfl) (by decide) (Nat.zero_le _) (Nat.zero_le _) (Nat.le_of_ble_eq_true rfl)) rfl ?_
  refine j_goto C dX2_isOf_15 (tgt := 37) (by decide) ?_
  obtain rfl := sp1 h
  exact j_zret C (b2i_z _) dX2_isOf_37 (Nat.zero_le _) (Nat.zero_le _) ⟨rfl, rfl⟩
/-! mend -/
def m_mend_b95 (N : Nat) (l1 : Int32) (l2 : Int32) (l3 : Int32) (l4 : Int32) (T : MS) : Option (Int32 × MS) :=
  chk 160 (4 * (T.1 35)) (
  nm (sA T 36 (4 * (T.1 35)).toNatClampNeg l1) fun T1 =>
  chk 160 ((4 * (T1.1 35)) + 1) (
  nm (sA T1 36 ((4 * (T1.1 35)) + 1).toNatClampNeg l2) fun T3 =>
  chk 160 ((4 * (T3.1 35)) + 2) (
  nm (sA T3 36 ((4 * (T3.1 35)) + 2).toNatClampNeg l4) fun T5 =>
  chk 160 ((4 * (T5.1 35)) + 3) (
  nm (sA T5 36 ((4 * (T5.1 35)) + 3).toNatClampNeg l3) fun T7 =>
  nm (sI T7 35 ((T7.1 35) + 1)) fun T9 =>
  nm (sI T9 34 (T9.1 35)) fun T10 =>
  some (l4, T10)))))
theorem wm_mend_b95 {κ : jK} (hκ : jStd κ) (N : Nat) {Γ : jG} (C : jC κ Γ cX2_mend 6 RX2 (some .int)) {G : Nat → Nat} (l1 : Int32) (l2 : Int32) (l3 : Int32) (l4 : Int32) {v : Int32} {T' : MS} : ∀ (T : MS), m_mend_b95 N l1 l2 l3 l4 T = some (v, T') → J κ Γ (2, 0, 0, (fun u w' => u = some (.int v) ∧ w' = wM κ G T')) 6 (wM κ G T) 0 0 95 [some (.ref (G 0)), some (.int l1), some (.int l2), some (.int l3), some (.int l4), none] [] := by
  intro T h
  rw [m_mend_b95] at h
  refine j_aload_n C dX2_mend_95 rfl rfl ?_
  refine jm_geta hκ C 36 (by decide) rfl q1673 dX2_mend_96 ?_
  refine j_iconst C (v := 4) dX2_mend_99 rfl ?_
  refine j_aload_n C dX2_mend_100 rfl rfl ?_
  refine jm_geti hκ C 35 (by decide) rfl q1672 dX2_mend_101 ?_
  refine j_imul C dX2_mend_104 ?_
  refine j_iload_n C dX2_mend_105 rfl rfl ?_
  obtain ⟨b2, h⟩ := chk_some h
  refine jm_iast hκ C 36 rfl b2 dX2_mend_106 ?_
  refine jm_nmT h (fun T1 h => ?_)
  refine j_aload_n C dX2_mend_107 rfl rfl ?_
  refine jm_geta hκ C 36 (by decide) rfl q1673 dX2_mend_108 ?_
  refine j_iconst C (v := 4) dX2_mend_111 rfl ?_
  refine j_aload_n C dX2_mend_112 rfl rfl ?_
  refine jm_geti hκ C 35 (by decide) rfl q1672 dX2_mend_113 ?_
  refine j_imul C dX2_mend_116 ?_
  refine j_iconst C (v := 1) dX2_mend_117 rfl ?_
  refine j_iadd C dX2_mend_118 ?_
  refine j_iload_n C dX2_mend_119 rfl rfl ?_
  obtain ⟨b4, h⟩ := chk_some h
  refine jm_iast hκ C 36 rfl b4 dX2_mend_120 ?_
  refine jm_nmT h (fun T3 h => ?_)
  refine j_aload_n C dX2_mend_121 rfl rfl ?_
  refine jm_geta hκ C 36 (by decide) rfl q1673 dX2_mend_122 ?_
  refine j_iconst C (v := 4) dX2_mend_125 rfl ?_
  refine j_aload_n C dX2_mend_126 rfl rfl ?_
  refine jm_geti hκ C 35 (by decide) rfl q1672 dX2_mend_127 ?_
  refine j_imul C dX2_mend_130 ?_
  refine j_iconst C (v := 2) dX2_mend_131 rfl ?_
  refine j_iadd C dX2_mend_132 ?_
  refine j_iload C dX2_mend_133 rfl ?_
  obtain ⟨b6, h⟩ := chk_some h
  refine jm_iast hκ C 36 rfl b6 dX2_mend_135 ?_
  refine jm_nmT h (fun T5 h => ?_)
  refine j_aload_n C dX2_mend_136 rfl rfl ?_
  refine jm_geta hκ C 36 (by decide) rfl q1673 dX2_mend_137 ?_
  refine j_iconst C (v := 4) dX2_mend_140 rfl ?_
  refine j_aload_n C dX2_mend_141 rfl rfl ?_
  refine jm_geti hκ C 35 (by decide) rfl q1672 dX2_mend_142 ?_
  refine j_imul C dX2_mend_145 ?_
  refine j_iconst C (v := 3) dX2_mend_146 rfl ?_
  refine j_iadd C dX2_mend_147 ?_
  refine j_iload_n C dX2_mend_148 rfl rfl ?_
  obtain ⟨b8, h⟩ := chk_some h
  refine jm_iast hκ C 36 rfl b8 dX2_mend_149 ?_
  refine jm_nmT h (fun T7 h => ?_)
  refine j_aload_n C dX2_mend_150 rfl rfl ?_
  refine j_dup C dX2_mend_151 rfl ?_
  refine jm_geti hκ C 35 (by decide) rfl q1672 dX2_mend_152 ?_
  refine j_iconst C (v := 1) dX2_mend_155 rfl ?_
  refine j_iadd C dX2_mend_156 ?_
  refine jm_puti hκ C 35 (by decide) rfl rfl rfl q1672 dX2_mend_157 ?_
  refine jm_nmT h (fun T9 h => ?_)
  refine j_aload_n C dX2_mend_160 rfl rfl ?_
  refine j_aload_n C dX2_mend_161 rfl rfl ?_
  refine jm_geti hκ C 35 (by decide) rfl q1672 dX2_mend_162 ?_
  refine jm_puti hκ C 34 (by decide) rfl rfl rfl q1671 dX2_mend_165 ?_
  refine jm_nmT h (fun T10 h => ?_)
  refine j_iload C dX2_mend_168 rfl ?_
  obtain ⟨rfl, rfl⟩ := sp2 h
  exact j_iret C dX2_mend_170 (Nat.zero_le _) (Nat.zero_le _) ⟨rfl, rfl⟩
def m_mend_b55 (N : Nat) (l1 : Int32) (l2 : Int32) (l3 : Int32) (l4 : Int32) : Nat → MS → Int32 → Option (Int32 × MS)
  | 0, _, _ => none
  | n + 1, T, l5 =>
    (if 156 ≤ l5 then
    nm (sI T 35 ((T.1 35) - 1)) fun T1 =>
    m_mend_b95 N l1 l2 l3 l4 T1
    else
    chk 160 (l5 + 4) (
    chk 160 l5 (
    nm (sA T 36 l5.toNatClampNeg (T.2.1 36 (l5 + 4).toNatClampNeg)) fun T3 =>
    nm (l5 + 1) fun x5 =>
    m_mend_b55 N l1 l2 l3 l4 n T3 x5)))
theorem wm_mend_b55 {κ : jK} (hκ : jStd κ) (N : Nat) {Γ : jG} (C : jC κ Γ cX2_mend 6 RX2 (some .int)) {G : Nat → Nat} (l1 : Int32) (l2 : Int32) (l3 : Int32) (l4 : Int32) {v : Int32} {T' : MS} : ∀ (n : Nat) (T : MS) (l5 : Int32), m_mend_b55 N l1 l2 l3 l4 n T l5 = some (v, T') → J κ Γ (2, 0, 0, (fun u w' => u = some (.int v) ∧ w' = wM κ G T')) 6 (wM κ G T) 0 0 55 [some (.ref (G 0)), some (.int l1), some (.int l2), some (.int l3), some (.int l4), some (.int l5)] [] := by
  intro n
  induction n with
  | zero => intro _ _ h; cases h
  | succ n ih =>
    intro T l5 h
    rw [m_mend_b55] at h
    refine j_iload C dX2_mend_55 rfl ?_
    refine j_sipush C (v := 156) dX2_mend_57 rfl ?_
    refine j_icmp_ge C dX2_mend_60 (tgt := 85) (by decide) (fun c => ?_) (fun c => ?_)
    · replace h := ip c h
      refine j_aload_n C dX2_mend_85 rfl rfl ?_
      refine j_dup C dX2_mend_86 rfl ?_
      refine jm_geti hκ C 35 (by decide) rfl q1672 dX2_mend_87 ?_
      refine j_iconst C (v := 1) dX2_mend_90 rfl ?_
      refine j_isub C dX2_mend_91 ?_
      refine jm_puti hκ C 35 (by decide) rfl rfl rfl q1672 dX2_mend_92 ?_
      refine jm_nmT h (fun T1 h => ?_)
      exact j_sub (wm_mend_b95 hκ N C _ _ _ _ _ h) ⟨rfl, ⟨rfl, ⟨rfl, ⟨rfl, ⟨rfl, trivial⟩⟩⟩⟩⟩
    replace h := im c h
    refine j_aload_n C dX2_mend_63 rfl rfl ?_
    refine jm_geta hκ C 36 (by decide) rfl q1673 dX2_mend_64 ?_
    refine j_iload C dX2_mend_67 rfl ?_
    refine j_aload_n C dX2_mend_69 rfl rfl ?_
    refine jm_geta hκ C 36 (by decide) rfl q1673 dX2_mend_70 ?_
    refine j_iload C dX2_mend_73 rfl ?_
    refine j_iconst C (v := 4) dX2_mend_75 rfl ?_
    refine j_iadd C dX2_mend_76 ?_
    obtain ⟨b2, h⟩ := chk_some h
    refine jm_iald hκ C 36 rfl b2 dX2_mend_77 ?_
    obtain ⟨b4, h⟩ := chk_some h
    refine jm_iast hκ C 36 rfl b4 dX2_mend_78 ?_
    refine jm_nmT h (fun T3 h => ?_)
    refine j_iincN C h dX2_mend_79 rfl rfl (by decide) rfl (fun x5 h => ?_)
    refine j_goto C dX2_mend_82 (tgt := 55) (by decide) ?_
    exact j_sub (ih _ _ h) ⟨rfl, ⟨rfl, ⟨rfl, ⟨rfl, ⟨rfl, ⟨rfl, trivial⟩⟩⟩⟩⟩⟩
def m_mend (N : Nat) (T : MS) (p1 : Int32) (p2 : Int32) (p3 : Int32) : Option (Int32 × MS) :=
  (m_isOf T p1 p2).bind fun v2 =>
  (if (b2i v2) = 0 then
  some ((-1), T)
  else
  (m_isFit p2 p3).bind fun v4 =>
  (if (b2i v4) = 0 then
  some ((-1), T)
  else
  (m_get T p1 p2).bind fun v6 =>
  (if v6 = p3 then
  some (v6, T)
  else
  (m_becomes T p1 p2 p3).bind fun T9 =>
  (if (T9.1 35) = 40 then
  m_mend_b55 N p1 p2 p3 v6 N T9 0
  else
  m_mend_b95 N p1 p2 p3 v6 T9))))
theorem mt_m_mend {κ : jK} (hκ : jStd κ) (N : Nat) (G : Nat → Nat) {T : MS} {p1 : Int32} {p2 : Int32} {p3 : Int32} {v : Int32} {T' : MS} (h : m_mend N T p1 p2 p3 = some (v, T')) : jM κ yX2_mend (ws_ yX2_mend cX2_mend 6 (some .int)) 2 0 0 [.ref (G 0), .int p1, .int p2, .int p3] (wM κ G T) (fun u w' => u = some (.int v) ∧ w' = wM κ G T') := by
  rw [m_mend] at h
  refine jM.of (by decide) rfl (Nat.le_of_ble_eq_true rfl) fun Γ C _ => ?_
  show J κ Γ (2, 0, 0, (fun u w' => u = some (.int v) ∧ w' = wM κ G T')) 6 (wM κ G T) 0 0 0 [some (.ref (G 0)), some (.int p1), some (.int p2), some (.int p3), none, none] []
  refine j_aload_n C dX2_mend_0 rfl rfl ?_
  refine j_iload_n C dX2_mend_1 rfl rfl ?_
  refine j_iload_n C dX2_mend_2 rfl rfl ?_
  obtain ⟨v2, e1, h⟩ := ob h
  refine jm_Vi hκ C (mt_m_isOf hκ G e1) hG_m_isOf hy_m_isOf rfl rfl dX2_mend_3 (jfit.of (Nat.le_of_ble_eq_true rfl) (by decide) (Nat.zero_le _) (Nat.zero_le _) (Nat.le_of_ble_eq_true rfl)) rfl ?_
  refine j_if_eq C dX2_mend_6 (tgt := 17) (by decide) (fun c => ?_) (fun c => ?_)
  · replace h := ip c h
    refine j_iconst C (v := (-1)) dX2_mend_17 rfl ?_
    obtain ⟨rfl, rfl⟩ := sp2 h
    exact j_iret C dX2_mend_18 (Nat.zero_le _) (Nat.zero_le _) ⟨rfl, rfl⟩
  replace h := im c h
  refine j_iload_n C dX2_mend_9 rfl rfl ?_
  refine j_iload_n C dX2_mend_10 rfl rfl ?_
  obtain ⟨v4, e3, h⟩ := ob h
  refine j_Si hκ.1 C (mt_m_isFit hκ e3) hG_m_isFit hy_m_isFit rfl dX2_mend_11 (jfit.of (Nat.le_of_ble_eq_true rfl) (by decide) (Nat.zero_le _) (Nat.zero_le _) (Nat.le_of_ble_eq_true rfl)) rfl ?_
  refine j_if_ne C dX2_mend_14 (tgt := 19) (by decide) (fun c => ?_) (fun c => ?_)
  · replace h := im c h
    refine j_aload_n C dX2_mend_19 rfl rfl ?_
    refine j_iload_n C dX2_mend_20 rfl rfl ?_
    refine j_iload_n C dX2_mend_21 rfl rfl ?_
    obtain ⟨v6, e5, h⟩ := ob h
    refine jm_Vi hκ C (mt_m_get hκ G e5) hG_m_get hy_m_get rfl rfl dX2_mend_22 (jfit.of (Nat.le_of_ble_eq_true rfl) (by decide) (Nat.zero_le _) (Nat.zero_le _) (Nat.le_of_ble_eq_true rfl)) rfl ?_
    refine j_istore C dX2_mend_25 (by decide) rfl ?_
    refine j_iload C dX2_mend_27 rfl ?_
    refine j_iload_n C dX2_mend_29 rfl rfl ?_
    refine j_icmp_ne C dX2_mend_30 (tgt := 36) (by decide) (fun c => ?_) (fun c => ?_)
    · replace h := im c h
      refine j_aload_n C dX2_mend_36 rfl rfl ?_
      refine j_iload_n C dX2_mend_37 rfl rfl ?_
      refine j_iload_n C dX2_mend_38 rfl rfl ?_
      refine j_iload_n C dX2_mend_39 rfl rfl ?_
      obtain ⟨T9, e7, h⟩ := ob h
      refine jm_Vv hκ C (mt_m_becomes hκ G e7) hG_m_becomes hy_m_becomes rfl rfl dX2_mend_40 (jfit.of (Nat.le_of_ble_eq_true rfl) (by decide) (Nat.zero_le _) (Nat.zero_le _) (Nat.le_of_ble_eq_true rfl)) rfl ?_
      refine j_aload_n C dX2_mend_43 rfl rfl ?_
      refine jm_geti hκ C 35 (by decide) rfl q1672 dX2_mend_44 ?_
      refine j_bipush C (v := 40) dX2_mend_47 rfl ?_
      refine j_icmp_ne C dX2_mend_49 (tgt := 95) (by decide) (fun c => ?_) (fun c => ?_)
      · replace h := im c h
        exact j_sub (wm_mend_b95 hκ N C _ _ _ _ _ h) ⟨rfl, ⟨rfl, ⟨rfl, ⟨rfl, ⟨rfl, trivial⟩⟩⟩⟩⟩
      replace h := ip c h
      refine j_iconst C (v := 0) dX2_mend_52 rfl ?_
      refine j_istore C dX2_mend_53 (by decide) rfl ?_
      exact j_sub (wm_mend_b55 hκ N C _ _ _ _ N _ _ h) ⟨rfl, ⟨rfl, ⟨rfl, ⟨rfl, ⟨rfl, ⟨rfl, trivial⟩⟩⟩⟩⟩⟩
    replace h := ip c h
    refine j_iload C dX2_mend_33 rfl ?_
    obtain ⟨rfl, rfl⟩ := sp2 h
    exact j_iret C dX2_mend_35 (Nat.zero_le _) (Nat.zero_le _) ⟨rfl, rfl⟩
  replace h := ip c h
  refine j_iconst C (v := (-1)) dX2_mend_17 rfl ?_
  obtain ⟨rfl, rfl⟩ := sp2 h
  exact j_iret C dX2_mend_18 (Nat.zero_le _) (Nat.zero_le _) ⟨rfl, rfl⟩
/-! of -/
def m_of (T : MS) (p1 : Int32) (p2 : Int32) : Option Int32 :=
  (if p2 = 8 then
  (m_isPost T p1.toInt64).bind fun v6 =>
  (if (b2i v6) = 0 then
  some (-1)
  else
  chk 9 p1 (
  some (T.2.1 26 p1.toNatClampNeg)))
  else
  (m_isOf T p1 p2).bind fun v2 =>
  (if (b2i v2) = 0 then
  some (-1)
  else
  (m_get T p1 p2).bind fun v4 =>
  some v4))
theorem mt_m_of {κ : jK} (hκ : jStd κ) (G : Nat → Nat) {T : MS} {p1 : Int32} {p2 : Int32} {v : Int32} (h : m_of T p1 p2 = some v) : jM κ yX2_of (ws_ yX2_of cX2_of 3 (some .int)) 2 0 0 [.ref (G 0), .int p1, .int p2] (wM κ G T) (fun u w' => u = some (.int v) ∧ w' = wM κ G T) := by
  rw [m_of] at h
  refine jM.of (by decide) rfl (Nat.le_of_ble_eq_true rfl) fun Γ C _ => ?_
  show J κ Γ (2, 0, 0, (fun u w' => u = some (.int v) ∧ w' = wM κ G T)) 3 (wM κ G T) 0 0 0 [some (.ref (G 0)), some (.int p1), some (.int p2)] []
  refine j_iload_n C dX2_of_0 rfl rfl ?_
  refine j_bipush C (v := 8) dX2_of_1 rfl ?_
  refine j_icmp_ne C dX2_of_3 (tgt := 26) (by decide) (fun c => ?_) (fun c => ?_)
  · replace h := im c h
    refine j_aload_n C dX2_of_26 rfl rfl ?_
    refine j_iload_n C dX2_of_27 rfl rfl ?_
    refine j_iload_n C dX2_of_28 rfl rfl ?_
    obtain ⟨v2, e1, h⟩ := ob h
    refine jm_Vi hκ C (mt_m_isOf hκ G e1) hG_m_isOf hy_m_isOf rfl rfl dX2_of_29 (jfit.of (Nat.le_of_ble_eq_true rfl) (by decide) (Nat.zero_le _) (Nat.zero_le _) (Nat.le_of_ble_eq_true rfl)) rfl ?_
    refine j_if_eq C dX2_of_32 (tgt := 44) (by decide) (fun c => ?_) (fun c => ?_)
    · replace h := ip c h
      refine j_iconst C (v := (-1)) dX2_of_44 rfl ?_
      obtain rfl := sp1 h
      exact j_iret C dX2_of_45 (Nat.zero_le _) (Nat.zero_le _) ⟨rfl, rfl⟩
    replace h := im c h
    refine j_aload_n C dX2_of_35 rfl rfl ?_
    refine j_iload_n C dX2_of_36 rfl rfl ?_
    refine j_iload_n C dX2_of_37 rfl rfl ?_
    obtain ⟨v4, e3, h⟩ := ob h
    refine jm_Vi hκ C (mt_m_get hκ G e3) hG_m_get hy_m_get rfl rfl dX2_of_38 (jfit.of (Nat.le_of_ble_eq_true rfl) (by decide) (Nat.zero_le _) (Nat.zero_le _) (Nat.le_of_ble_eq_true rfl)) rfl ?_
    refine j_goto C dX2_of_41 (tgt := 45) (by decide) ?_
    obtain rfl := sp1 h
    exact j_iret C dX2_of_45 (Nat.zero_le _) (Nat.zero_le _) ⟨rfl, rfl⟩
  replace h := ip c h
  refine j_aload_n C dX2_of_6 rfl rfl ?_
  refine j_iload_n C dX2_of_7 rfl rfl ?_
  refine j_i2l C dX2_of_8 ?_
  obtain ⟨v6, e5, h⟩ := ob h
  refine jm_Vi hκ C (mt_m_isPost hκ G e5) hG_m_isPost hy_m_isPost rfl rfl dX2_of_9 (jfit.of (Nat.le_of_ble_eq_true rfl) (by decide) (Nat.zero_le _) (Nat.zero_le _) (Nat.le_of_ble_eq_true rfl)) rfl ?_
  refine j_if_eq C dX2_of_12 (tgt := 24) (by decide) (fun c => ?_) (fun c => ?_)
  · replace h := ip c h
    refine j_iconst C (v := (-1)) dX2_of_24 rfl ?_
    obtain rfl := sp1 h
    exact j_iret C dX2_of_25 (Nat.zero_le _) (Nat.zero_le _) ⟨rfl, rfl⟩
  replace h := im c h
  refine j_aload_n C dX2_of_15 rfl rfl ?_
  refine jm_geta hκ C 26 (by decide) rfl q1663 dX2_of_16 ?_
  refine j_iload_n C dX2_of_19 rfl rfl ?_
  obtain ⟨b7, h⟩ := chk_some h
  refine jm_iald hκ C 26 rfl b7 dX2_of_20 ?_
  refine j_goto C dX2_of_21 (tgt := 25) (by decide) ?_
  obtain rfl := sp1 h
  exact j_iret C dX2_of_25 (Nat.zero_le _) (Nat.zero_le _) ⟨rfl, rfl⟩
/-! undo -/
def m_undo (T : MS) : Option (Int32 × MS) :=
  (if (T.1 35) = 0 then
  some ((-5), T)
  else
  nm (sI T 35 ((T.1 35) - 1)) fun T1 =>
  chk 160 (4 * (T1.1 35)) (
  chk 160 ((4 * (T1.1 35)) + 1) (
  chk 160 ((4 * (T1.1 35)) + 2) (
  (m_becomes T1 (T1.2.1 36 (4 * (T1.1 35)).toNatClampNeg) (T1.2.1 36 ((4 * (T1.1 35)) + 1).toNatClampNeg) (T1.2.1 36 ((4 * (T1.1 35)) + 2).toNatClampNeg)).bind fun T7 =>
  some (T7.1 35, T7)))))
theorem mt_m_undo {κ : jK} (hκ : jStd κ) (G : Nat → Nat) {T : MS} {v : Int32} {T' : MS} (h : m_undo T = some (v, T')) : jM κ yX2_undo (ws_ yX2_undo cX2_undo 1 (some .int)) 1 0 0 [.ref (G 0)] (wM κ G T) (fun u w' => u = some (.int v) ∧ w' = wM κ G T') := by
  rw [m_undo] at h
  refine jM.of (by decide) rfl (Nat.le_of_ble_eq_true rfl) fun Γ C _ => ?_
  show J κ Γ (1, 0, 0, (fun u w' => u = some (.int v) ∧ w' = wM κ G T')) 1 (wM κ G T) 0 0 0 [some (.ref (G 0))] []
  refine j_aload_n C dX2_undo_0 rfl rfl ?_
  refine jm_geti hκ C 35 (by decide) rfl q1672 dX2_undo_1 ?_
  refine j_if_ne C dX2_undo_4 (tgt := 10) (by decide) (fun c => ?_) (fun c => ?_)
  · replace h := im c h
    refine j_aload_n C dX2_undo_10 rfl rfl ?_
    refine j_dup C dX2_undo_11 rfl ?_
    refine jm_geti hκ C 35 (by decide) rfl q1672 dX2_undo_12 ?_
    refine j_iconst C (v := 1) dX2_undo_15 rfl ?_
    refine j_isub C dX2_undo_16 ?_
    refine jm_puti hκ C 35 (by decide) rfl rfl rfl q1672 dX2_undo_17 ?_
    refine jm_nmT h (fun T1 h => ?_)
    refine j_aload_n C dX2_undo_20 rfl rfl ?_
    refine j_aload_n C dX2_undo_21 rfl rfl ?_
    refine jm_geta hκ C 36 (by decide) rfl q1673 dX2_undo_22 ?_
    refine j_iconst C (v := 4) dX2_undo_25 rfl ?_
    refine j_aload_n C dX2_undo_26 rfl rfl ?_
    refine jm_geti hκ C 35 (by decide) rfl q1672 dX2_undo_27 ?_
    refine j_imul C dX2_undo_30 ?_
    obtain ⟨b2, h⟩ := chk_some h
    refine jm_iald hκ C 36 rfl b2 dX2_undo_31 ?_
    refine j_aload_n C dX2_undo_32 rfl rfl ?_
    refine jm_geta hκ C 36 (by decide) rfl q1673 dX2_undo_33 ?_
    refine j_iconst C (v := 4) dX2_undo_36 rfl ?_
    refine j_aload_n C dX2_undo_37 rfl rfl ?_
    refine jm_geti hκ C 35 (by decide) rfl q1672 dX2_undo_38 ?_
    refine j_imul C dX2_undo_41 ?_
    refine j_iconst C (v := 1) dX2_undo_42 rfl ?_
    refine j_iadd C dX2_undo_43 ?_
    obtain ⟨b3, h⟩ := chk_some h
    refine jm_iald hκ C 36 rfl b3 dX2_undo_44 ?_
    refine j_aload_n C dX2_undo_45 rfl rfl ?_
    refine jm_geta hκ C 36 (by decide) rfl q1673 dX2_undo_46 ?_
    refine j_iconst C (v := 4) dX2_undo_49 rfl ?_
    refine j_aload_n C dX2_undo_50 rfl rfl ?_
    refine jm_geti hκ C 35 (by decide) rfl q1672 dX2_undo_51 ?_
    refine j_imul C dX2_undo_54 ?_
    refine j_iconst C (v := 2) dX2_undo_55 rfl ?_
    refine j_iadd C dX2_undo_56 ?_
    obtain ⟨b4, h⟩ := chk_some h
    refine jm_iald hκ C 36 rfl b4 dX2_undo_57 ?_
    obtain ⟨T7, e5, h⟩ := ob h
    refine jm_Vv hκ C (mt_m_becomes hκ G e5) hG_m_becomes hy_m_becomes rfl rfl dX2_undo_58 (jfit.of (Nat.le_of_ble_eq_true rfl) (by decide) (Nat.zero_le _) (Nat.zero_le _) (Nat.le_of_ble_eq_true rfl)) rfl ?_
    refine j_aload_n C dX2_undo_61 rfl rfl ?_
    refine jm_geti hκ C 35 (by decide) rfl q1672 dX2_undo_62 ?_
    obtain ⟨rfl, rfl⟩ := sp2 h
    exact j_iret C dX2_undo_65 (Nat.zero_le _) (Nat.zero_le _) ⟨rfl, rfl⟩
  replace h := ip c h
  refine j_bipush C (v := (-5)) dX2_undo_7 rfl ?_
  obtain ⟨rfl, rfl⟩ := sp2 h
  exact j_iret C dX2_undo_9 (Nat.zero_le _) (Nat.zero_le _) ⟨rfl, rfl⟩
/-! redo -/
def m_redo (T : MS) : Option (Int32 × MS) :=
  (if (T.1 35) = (T.1 34) then
  some ((-5), T)
  else
  chk 160 (4 * (T.1 35)) (
  chk 160 ((4 * (T.1 35)) + 1) (
  chk 160 ((4 * (T.1 35)) + 3) (
  (m_becomes T (T.2.1 36 (4 * (T.1 35)).toNatClampNeg) (T.2.1 36 ((4 * (T.1 35)) + 1).toNatClampNeg) (T.2.1 36 ((4 * (T.1 35)) + 3).toNatClampNeg)).bind fun T6 =>
  nm (sI T6 35 ((T6.1 35) + 1)) fun T7 =>
  some (((T7.1 34) - (T7.1 35)), T7)))))
theorem mt_m_redo {κ : jK} (hκ : jStd κ) (G : Nat → Nat) {T : MS} {v : Int32} {T' : MS} (h : m_redo T = some (v, T')) : jM κ yX2_redo (ws_ yX2_redo cX2_redo 1 (some .int)) 1 0 0 [.ref (G 0)] (wM κ G T) (fun u w' => u = some (.int v) ∧ w' = wM κ G T') := by
  rw [m_redo] at h
  refine jM.of (by decide) rfl (Nat.le_of_ble_eq_true rfl) fun Γ C _ => ?_
  show J κ Γ (1, 0, 0, (fun u w' => u = some (.int v) ∧ w' = wM κ G T')) 1 (wM κ G T) 0 0 0 [some (.ref (G 0))] []
  refine j_aload_n C dX2_redo_0 rfl rfl ?_
  refine jm_geti hκ C 35 (by decide) rfl q1672 dX2_redo_1 ?_
  refine j_aload_n C dX2_redo_4 rfl rfl ?_
  refine jm_geti hκ C 34 (by decide) rfl q1671 dX2_redo_5 ?_
  refine j_icmp_ne C dX2_redo_8 (tgt := 14) (by decide) (fun c => ?_) (fun c => ?_)
  · replace h := im c h
    refine j_aload_n C dX2_redo_14 rfl rfl ?_
    refine j_aload_n C dX2_redo_15 rfl rfl ?_
    refine jm_geta hκ C 36 (by decide) rfl q1673 dX2_redo_16 ?_
    refine j_iconst C (v := 4) dX2_redo_19 rfl ?_
    refine j_aload_n C dX2_redo_20 rfl rfl ?_
    refine jm_geti hκ C 35 (by decide) rfl q1672 dX2_redo_21 ?_
    refine j_imul C dX2_redo_24 ?_
    obtain ⟨b1, h⟩ := chk_some h
    refine jm_iald hκ C 36 rfl b1 dX2_redo_25 ?_
    refine j_aload_n C dX2_redo_26 rfl rfl ?_
    refine jm_geta hκ C 36 (by decide) rfl q1673 dX2_redo_27 ?_
    refine j_iconst C (v := 4) dX2_redo_30 rfl ?_
    refine j_aload_n C dX2_redo_31 rfl rfl ?_
    refine jm_geti hκ C 35 (by decide) rfl q1672 dX2_redo_32 ?_
    refine j_imul C dX2_redo_35 ?_
    refine j_iconst C (v := 1) dX2_redo_36 rfl ?_
    refine j_iadd C dX2_redo_37 ?_
    obtain ⟨b2, h⟩ := chk_some h
    refine jm_iald hκ C 36 rfl b2 dX2_redo_38 ?_
    refine j_aload_n C dX2_redo_39 rfl rfl ?_
    refine jm_geta hκ C 36 (by decide) rfl q1673 dX2_redo_40 ?_
    refine j_iconst C (v := 4) dX2_redo_43 rfl ?_
    refine j_aload_n C dX2_redo_44 rfl rfl ?_
    refine jm_geti hκ C 35 (by decide) rfl q1672 dX2_redo_45 ?_
    refine j_imul C dX2_redo_48 ?_
    refine j_iconst C (v := 3) dX2_redo_49 rfl ?_
    refine j_iadd C dX2_redo_50 ?_
    obtain ⟨b3, h⟩ := chk_some h
    refine jm_iald hκ C 36 rfl b3 dX2_redo_51 ?_
    obtain ⟨T6, e4, h⟩ := ob h
    refine jm_Vv hκ C (mt_m_becomes hκ G e4) hG_m_becomes hy_m_becomes rfl rfl dX2_redo_52 (jfit.of (Nat.le_of_ble_eq_true rfl) (by decide) (Nat.zero_le _) (Nat.zero_le _) (Nat.le_of_ble_eq_true rfl)) rfl ?_
    refine j_aload_n C dX2_redo_55 rfl rfl ?_
    refine j_dup C dX2_redo_56 rfl ?_
    refine jm_geti hκ C 35 (by decide) rfl q1672 dX2_redo_57 ?_
    refine j_iconst C (v := 1) dX2_redo_60 rfl ?_
    refine j_iadd C dX2_redo_61 ?_
    refine jm_puti hκ C 35 (by decide) rfl rfl rfl q1672 dX2_redo_62 ?_
    refine jm_nmT h (fun T7 h => ?_)
    refine j_aload_n C dX2_redo_65 rfl rfl ?_
    refine jm_geti hκ C 34 (by decide) rfl q1671 dX2_redo_66 ?_
    refine j_aload_n C dX2_redo_69 rfl rfl ?_
    refine jm_geti hκ C 35 (by decide) rfl q1672 dX2_redo_70 ?_
    refine j_isub C dX2_redo_73 ?_
    obtain ⟨rfl, rfl⟩ := sp2 h
    exact j_iret C dX2_redo_74 (Nat.zero_le _) (Nat.zero_le _) ⟨rfl, rfl⟩
  replace h := ip c h
  refine j_bipush C (v := (-5)) dX2_redo_11 rfl ?_
  obtain ⟨rfl, rfl⟩ := sp2 h
  exact j_iret C dX2_redo_13 (Nat.zero_le _) (Nat.zero_le _) ⟨rfl, rfl⟩
/-! feed -/
def m_feed (T : MS) (p1 : Int32) : Option (Int32 × MS) :=
  (m_within p1 0 255).bind fun v2 =>
  (if (b2i v2) = 0 then
  some ((-1), T)
  else
  (if (T.1 6) = 120 then
  some ((-3), T)
  else
  nm (sI T 6 ((T.1 6) + 1)) fun T3 =>
  chk 120 (T.1 6) (
  nm (sA T3 7 (T.1 6).toNatClampNeg p1) fun T4 =>
  some (T4.1 6, T4))))
theorem mt_m_feed {κ : jK} (hκ : jStd κ) (G : Nat → Nat) {T : MS} {p1 : Int32} {v : Int32} {T' : MS} (h : m_feed T p1 = some (v, T')) : jM κ yX2_feed (ws_ yX2_feed cX2_feed 2 (some .int)) 1 0 0 [.ref (G 0), .int p1] (wM κ G T) (fun u w' => u = some (.int v) ∧ w' = wM κ G T') := by
  rw [m_feed] at h
  refine jM.of (by decide) rfl (Nat.le_of_ble_eq_true rfl) fun Γ C _ => ?_
  show J κ Γ (1, 0, 0, (fun u w' => u = some (.int v) ∧ w' = wM κ G T')) 2 (wM κ G T) 0 0 0 [some (.ref (G 0)), some (.int p1)] []
  refine j_iload_n C dX2_feed_0 rfl rfl ?_
  refine j_iconst C (v := 0) dX2_feed_1 rfl ?_
  refine j_sipush C (v := 255) dX2_feed_2 rfl ?_
  obtain ⟨v2, e1, h⟩ := ob h
  refine j_Si hκ.1 C (mt_m_within hκ e1) hG_m_within hy_m_within rfl dX2_feed_5 (jfit.of (Nat.le_of_ble_eq_true rfl) (by decide) (Nat.zero_le _) (Nat.zero_le _) (Nat.le_of_ble_eq_true rfl)) rfl ?_
  refine j_if_ne C dX2_feed_8 (tgt := 13) (by decide) (fun c => ?_) (fun c => ?_)
  · replace h := im c h
    refine j_aload_n C dX2_feed_13 rfl rfl ?_
    refine jm_geti hκ C 6 (by decide) rfl q1643 dX2_feed_14 ?_
    refine j_bipush C (v := 120) dX2_feed_17 rfl ?_
    refine j_icmp_ne C dX2_feed_19 (tgt := 25) (by decide) (fun c => ?_) (fun c => ?_)
    · replace h := im c h
      refine j_aload_n C dX2_feed_25 rfl rfl ?_
      refine jm_geta hκ C 7 (by decide) rfl q1644 dX2_feed_26 ?_
      refine j_aload_n C dX2_feed_29 rfl rfl ?_
      refine j_dup C dX2_feed_30 rfl ?_
      refine jm_geti hκ C 6 (by decide) rfl q1643 dX2_feed_31 ?_
      refine j_dup_x1 C dX2_feed_34 rfl rfl ?_
      refine j_iconst C (v := 1) dX2_feed_35 rfl ?_
      refine j_iadd C dX2_feed_36 ?_
      refine jm_puti hκ C 6 (by decide) rfl rfl rfl q1643 dX2_feed_37 ?_
      refine jm_nmT h (fun T3 h => ?_)
      refine j_iload_n C dX2_feed_40 rfl rfl ?_
      obtain ⟨b5, h⟩ := chk_some h
      refine jm_iast hκ C 7 rfl b5 dX2_feed_41 ?_
      refine jm_nmT h (fun T4 h => ?_)
      refine j_aload_n C dX2_feed_42 rfl rfl ?_
      refine jm_geti hκ C 6 (by decide) rfl q1643 dX2_feed_43 ?_
      obtain ⟨rfl, rfl⟩ := sp2 h
      exact j_iret C dX2_feed_46 (Nat.zero_le _) (Nat.zero_le _) ⟨rfl, rfl⟩
    replace h := ip c h
    refine j_bipush C (v := (-3)) dX2_feed_22 rfl ?_
    obtain ⟨rfl, rfl⟩ := sp2 h
    exact j_iret C dX2_feed_24 (Nat.zero_le _) (Nat.zero_le _) ⟨rfl, rfl⟩
  replace h := ip c h
  refine j_iconst C (v := (-1)) dX2_feed_11 rfl ?_
  obtain ⟨rfl, rfl⟩ := sp2 h
  exact j_iret C dX2_feed_12 (Nat.zero_le _) (Nat.zero_le _) ⟨rfl, rfl⟩
/-! sign -/
def m_sign (T : MS) : Option Int32 :=
  (if (T.1 6) ≤ (T.1 14) then
  some (-1)
  else
  chk 120 (T.1 14) (
  some (T.2.1 7 (T.1 14).toNatClampNeg)))
theorem mt_m_sign {κ : jK} (hκ : jStd κ) (G : Nat → Nat) {T : MS} {v : Int32} (h : m_sign T = some v) : jM κ yX2_sign (ws_ yX2_sign cX2_sign 1 (some .int)) 0 0 0 [.ref (G 0)] (wM κ G T) (fun u w' => u = some (.int v) ∧ w' = wM κ G T) := by
  rw [m_sign] at h
  refine jM.of (by decide) rfl (Nat.le_of_ble_eq_true rfl) fun Γ C _ => ?_
  show J κ Γ (0, 0, 0, (fun u w' => u = some (.int v) ∧ w' = wM κ G T)) 1 (wM κ G T) 0 0 0 [some (.ref (G 0))] []
  refine j_aload_n C dX2_sign_0 rfl rfl ?_
  refine jm_geti hκ C 14 (by decide) rfl q1651 dX2_sign_1 ?_
  refine j_aload_n C dX2_sign_4 rfl rfl ?_
  refine jm_geti hκ C 6 (by decide) rfl q1643 dX2_sign_5 ?_
  refine j_icmp_ge C dX2_sign_8 (tgt := 23) (by decide) (fun c => ?_) (fun c => ?_)
  · replace h := ip c h
    refine j_iconst C (v := (-1)) dX2_sign_23 rfl ?_
    obtain rfl := sp1 h
    exact j_iret C dX2_sign_24 (Nat.zero_le _) (Nat.zero_le _) ⟨rfl, rfl⟩
  replace h := im c h
  refine j_aload_n C dX2_sign_11 rfl rfl ?_
  refine jm_geta hκ C 7 (by decide) rfl q1644 dX2_sign_12 ?_
  refine j_aload_n C dX2_sign_15 rfl rfl ?_
  refine jm_geti hκ C 14 (by decide) rfl q1651 dX2_sign_16 ?_
  obtain ⟨b1, h⟩ := chk_some h
  refine jm_iald hκ C 7 rfl b1 dX2_sign_19 ?_
  refine j_goto C dX2_sign_20 (tgt := 24) (by decide) ?_
  obtain rfl := sp1 h
  exact j_iret C dX2_sign_24 (Nat.zero_le _) (Nat.zero_le _) ⟨rfl, rfl⟩
/-! is -/
def m_is (T : MS) (p1 : Int32) : Option (Bool × MS) :=
  (m_sign T).bind fun v2 =>
  (if v2 = p1 then
  nm (sI T 14 ((T.1 14) + 1)) fun T3 =>
  some (true, T3)
  else
  some (false, T))
theorem mt_m_is {κ : jK} (hκ : jStd κ) (G : Nat → Nat) {T : MS} {p1 : Int32} {v : Bool} {T' : MS} (h : m_is T p1 = some (v, T')) : jM κ yX2_is (ws_ yX2_is cX2_is 2 (some .boolean)) 1 0 0 [.ref (G 0), .int p1] (wM κ G T) (fun u w' => u = some (.int (b2i v)) ∧ w' = wM κ G T') := by
  rw [m_is] at h
  refine jM.of (by decide) rfl (Nat.le_of_ble_eq_true rfl) fun Γ C _ => ?_
  show J κ Γ (1, 0, 0, (fun u w' => u = some (.int (b2i v)) ∧ w' = wM κ G T')) 2 (wM κ G T) 0 0 0 [some (.ref (G 0)), some (.int p1)] []
  refine j_aload_n C dX2_is_0 rfl rfl ?_
  obtain ⟨v2, e1, h⟩ := ob h
  refine jm_Vi hκ C (mt_m_sign hκ G e1) hG_m_sign hy_m_sign rfl rfl dX2_is_1 (jfit.of (Nat.le_of_ble_eq_true rfl) (by decide) (Nat.zero_le _) (Nat.zero_le _) (Nat.le_of_ble_eq_true rfl)) rfl ?_
  refine j_iload_n C dX2_is_4 rfl rfl ?_
  refine j_icmp_eq C dX2_is_5 (tgt := 10) (by decide) (fun c => ?_) (fun c => ?_)
  · replace h := ip c h
    refine j_aload_n C dX2_is_10 rfl rfl ?_
    refine j_dup C dX2_is_11 rfl ?_
    refine jm_geti hκ C 14 (by decide) rfl q1651 dX2_is_12 ?_
    refine j_iconst C (v := 1) dX2_is_15 rfl ?_
    refine j_iadd C dX2_is_16 ?_
    refine jm_puti hκ C 14 (by decide) rfl rfl rfl q1651 dX2_is_17 ?_
    refine jm_nmT h (fun T3 h => ?_)
    refine j_iconst C (v := 1) dX2_is_20 rfl ?_
    obtain ⟨rfl, rfl⟩ := sp2 h
    exact j_zret C rfl dX2_is_21 (Nat.zero_le _) (Nat.zero_le _) ⟨rfl, rfl⟩
  replace h := im c h
  refine j_iconst C (v := 0) dX2_is_8 rfl ?_
  obtain ⟨rfl, rfl⟩ := sp2 h
  exact j_zret C rfl dX2_is_9 (Nat.zero_le _) (Nat.zero_le _) ⟨rfl, rfl⟩
/-! codes -/
def m_codes (T : MS) (p1 : Int32) : Option (Bool × MS) :=
  nm (sI T 16 ((T.1 16) + 1)) fun T1 =>
  chk 200 (T.1 16) (
  nm (sA T1 21 (T.1 16).toNatClampNeg p1) fun T2 =>
  some (true, T2))
theorem mt_m_codes {κ : jK} (hκ : jStd κ) (G : Nat → Nat) {T : MS} {p1 : Int32} {v : Bool} {T' : MS} (h : m_codes T p1 = some (v, T')) : jM κ yX2_codes (ws_ yX2_codes cX2_codes 2 (some .boolean)) 0 0 0 [.ref (G 0), .int p1] (wM κ G T) (fun u w' => u = some (.int (b2i v)) ∧ w' = wM κ G T') := by
  rw [m_codes] at h
  refine jM.of (by decide) rfl (Nat.le_of_ble_eq_true rfl) fun Γ C _ => ?_
  show J κ Γ (0, 0, 0, (fun u w' => u = some (.int (b2i v)) ∧ w' = wM κ G T')) 2 (wM κ G T) 0 0 0 [some (.ref (G 0)), some (.int p1)] []
  refine j_aload_n C dX2_codes_0 rfl rfl ?_
  refine jm_geta hκ C 21 (by decide) rfl q1658 dX2_codes_1 ?_
  refine j_aload_n C dX2_codes_4 rfl rfl ?_
  refine j_dup C dX2_codes_5 rfl ?_
  refine jm_geti hκ C 16 (by decide) rfl q1653 dX2_codes_6 ?_
  refine j_dup_x1 C dX2_codes_9 rfl rfl ?_
  refine j_iconst C (v := 1) dX2_codes_10 rfl ?_
  refine j_iadd C dX2_codes_11 ?_
  refine jm_puti hκ C 16 (by decide) rfl rfl rfl q1653 dX2_codes_12 ?_
  refine jm_nmT h (fun T1 h => ?_)
  refine j_iload_n C dX2_codes_15 rfl rfl ?_
  obtain ⟨b3, h⟩ := chk_some h
  refine jm_iast hκ C 21 rfl b3 dX2_codes_16 ?_
  refine jm_nmT h (fun T2 h => ?_)
  refine j_iconst C (v := 1) dX2_codes_17 rfl ?_
  obtain ⟨rfl, rfl⟩ := sp2 h
  exact j_zret C rfl dX2_codes_18 (Nat.zero_le _) (Nat.zero_le _) ⟨rfl, rfl⟩
/-! isDigit -/
def m_isDigit (T : MS) : Option Bool :=
  (m_sign T).bind fun v2 =>
  (if v2 < 48 then
  some false
  else
  (m_sign T).bind fun v4 =>
  (if 57 < v4 then
  some false
  else
  some true))
theorem mt_m_isDigit {κ : jK} (hκ : jStd κ) (G : Nat → Nat) {T : MS} {v : Bool} (h : m_isDigit T = some v) : jM κ yX2_isDigit (ws_ yX2_isDigit cX2_isDigit 1 (some .boolean)) 1 0 0 [.ref (G 0)] (wM κ G T) (fun u w' => u = some (.int (b2i v)) ∧ w' = wM κ G T) := by
  rw [m_isDigit] at h
  refine jM.of (by decide) rfl (Nat.le_of_ble_eq_true rfl) fun Γ C _ => ?_
  show J κ Γ (1, 0, 0, (fun u w' => u = some (.int (b2i v)) ∧ w' = wM κ G T)) 1 (wM κ G T) 0 0 0 [some (.ref (G 0))] []
  refine j_aload_n C dX2_isDigit_0 rfl rfl ?_
  obtain ⟨v2, e1, h⟩ := ob h
  refine jm_Vi hκ C (mt_m_sign hκ G e1) hG_m_sign hy_m_sign rfl rfl dX2_isDigit_1 (jfit.of (Nat.le_of_ble_eq_true rfl) (by decide) (Nat.zero_le _) (Nat.zero_le _) (Nat.le_of_ble_eq_true rfl)) rfl ?_
  refine j_bipush C (v := 48) dX2_isDigit_4 rfl ?_
  refine j_icmp_lt C dX2_isDigit_6 (tgt := 22) (by decide) (fun c => ?_) (fun c => ?_)
  · replace h := ip c h
    refine j_iconst C (v := 0) dX2_isDigit_22 rfl ?_
    obtain rfl := sp1 h
    exact j_zret C rfl dX2_isDigit_23 (Nat.zero_le _) (Nat.zero_le _) ⟨rfl, rfl⟩
  replace h := im c h
  refine j_aload_n C dX2_isDigit_9 rfl rfl ?_
  obtain ⟨v4, e3, h⟩ := ob h
  refine jm_Vi hκ C (mt_m_sign hκ G e3) hG_m_sign hy_m_sign rfl rfl dX2_isDigit_10 (jfit.of (Nat.le_of_ble_eq_true rfl) (by decide) (Nat.zero_le _) (Nat.zero_le _) (Nat.le_of_ble_eq_true rfl)) rfl ?_
  refine j_bipush C (v := 57) dX2_isDigit_13 rfl ?_
  refine j_icmp_gt C dX2_isDigit_15 (tgt := 22) (by decide) (fun c => ?_) (fun c => ?_)
  · replace h := ip c h
    refine j_iconst C (v := 0) dX2_isDigit_22 rfl ?_
    obtain rfl := sp1 h
    exact j_zret C rfl dX2_isDigit_23 (Nat.zero_le _) (Nat.zero_le _) ⟨rfl, rfl⟩
  replace h := im c h
  refine j_iconst C (v := 1) dX2_isDigit_18 rfl ?_
  refine j_goto C dX2_isDigit_19 (tgt := 23) (by decide) ?_
  obtain rfl := sp1 h
  exact j_zret C rfl dX2_isDigit_23 (Nat.zero_le _) (Nat.zero_le _) ⟨rfl, rfl⟩
/-! isP -/
def m_isP_b52 (o : MS → Option (Bool × MS)) (N : Nat) (k9 : MS → Option (Bool × MS)) (T : MS) (s1 : Int32) : Option (Bool × MS) :=
  (if 0 ≤ s1 then
  nm (sI T 14 ((T.1 14) + 1)) fun T1 =>
  b2 (o T1) fun v3 T4 =>
  (if (b2i v3) = 0 then
  some (false, T4)
  else
  b2 (m_codes T4 s1) fun v6 T7 =>
  k9 T7)
  else
  some (true, T))
theorem wm_isP_b52 {κ : jK} (hκ : jStd κ) (N : Nat) {Γ : jG} (C : jC κ Γ cX2_isP 2 RX2 (some .boolean)) {G : Nat → Nat} {o : MS → Option (Bool × MS)} {fo : Nat} (ho : ∀ {T : MS}  {v : Bool} {T' : MS}, o T  = some (v, T') → jM κ yX2_isO (ws_ yX2_isO cX2_isO 3 (some .boolean)) fo 0 0 [.ref (G 0)] (wM κ G T) (fun u w' => u = some (.int (b2i v)) ∧ w' = wM κ G T'))  (k9 : MS → Option (Bool × MS)) {v : Bool} {T' : MS} (hk9 : ∀ (T : MS), k9 T = some (v, T') → J κ Γ ((fo + 1), 0, 0, (fun u w' => u = some (.int (b2i v)) ∧ w' = wM κ G T')) 2 (wM κ G T) 0 0 9 [some (.ref (G 0)), none] []) : ∀ (T : MS) (s1 : Int32), m_isP_b52 o N k9 T s1 = some (v, T') → J κ Γ ((fo + 1), 0, 0, (fun u w' => u = some (.int (b2i v)) ∧ w' = wM κ G T')) 2 (wM κ G T) 0 0 52 [some (.ref (G 0)), none] [.int s1] := by
  intro T s1 h
  rw [m_isP_b52] at h
  refine j_istore_n C dX2_isP_52 rfl (by decide) rfl ?_
  refine j_iload_n C dX2_isP_53 rfl rfl ?_
  refine j_if_ge C dX2_isP_54 (tgt := 59) (by decide) (fun c => ?_) (fun c => ?_)
  · replace h := ip c h
    refine j_aload_n C dX2_isP_59 rfl rfl ?_
    refine j_dup C dX2_isP_60 rfl ?_
    refine jm_geti hκ C 14 (by decide) rfl q1651 dX2_isP_61 ?_
    refine j_iconst C (v := 1) dX2_isP_64 rfl ?_
    refine j_iadd C dX2_isP_65 ?_
    refine jm_puti hκ C 14 (by decide) rfl rfl rfl q1651 dX2_isP_66 ?_
    refine jm_nmT h (fun T1 h => ?_)
    refine j_aload_n C dX2_isP_69 rfl rfl ?_
    obtain ⟨v3, T4, e2, h⟩ := ob2 h
    refine jm_Vi hκ C (ho e2) hG_m_isO hy_m_isO rfl rfl dX2_isP_70 (jfit.of (by omega) (by decide) (Nat.zero_le _) (Nat.zero_le _) (Nat.le_of_ble_eq_true rfl)) rfl ?_
    refine j_if_ne C dX2_isP_73 (tgt := 78) (by decide) (fun c => ?_) (fun c => ?_)
    · replace h := im c h
      refine j_aload_n C dX2_isP_78 rfl rfl ?_
      refine j_iload_n C dX2_isP_79 rfl rfl ?_
      obtain ⟨v6, T7, e5, h⟩ := ob2 h
      refine jm_Vi hκ C (mt_m_codes hκ G e5) hG_m_codes hy_m_codes rfl rfl dX2_isP_80 (jfit.of (by omega) (by decide) (Nat.zero_le _) (Nat.zero_le _) (Nat.le_of_ble_eq_true rfl)) rfl ?_
      refine j_pop C dX2_isP_83 rfl ?_
      refine j_goto C dX2_isP_84 (tgt := 9) (by decide) ?_
      exact j_sub (hk9 _ h) ⟨rfl, trivial⟩
    replace h := ip c h
    refine j_iconst C (v := 0) dX2_isP_76 rfl ?_
    obtain ⟨rfl, rfl⟩ := sp2 h
    exact j_zret C rfl dX2_isP_77 (Nat.zero_le _) (Nat.zero_le _) ⟨rfl, rfl⟩
  replace h := im c h
  refine j_iconst C (v := 1) dX2_isP_57 rfl ?_
  obtain ⟨rfl, rfl⟩ := sp2 h
  exact j_zret C rfl dX2_isP_58 (Nat.zero_le _) (Nat.zero_le _) ⟨rfl, rfl⟩
def m_isP_b9 (o : MS → Option (Bool × MS)) (N : Nat) : Nat → MS → Option (Bool × MS)
  | 0, _ => none
  | n + 1, T =>
    (m_sign T).bind fun v2 =>
    (if v2 = 42 then
    m_isP_b52 o N (fun t => m_isP_b9 o N n t) T 13
    else
    (m_sign T).bind fun v4 =>
    (if v4 = 47 then
    m_isP_b52 o N (fun t => m_isP_b9 o N n t) T 14
    else
    (m_sign T).bind fun v6 =>
    (if v6 = 37 then
    m_isP_b52 o N (fun t => m_isP_b9 o N n t) T 15
    else
    m_isP_b52 o N (fun t => m_isP_b9 o N n t) T (-1))))
theorem wm_isP_b9 {κ : jK} (hκ : jStd κ) (N : Nat) {Γ : jG} (C : jC κ Γ cX2_isP 2 RX2 (some .boolean)) {G : Nat → Nat} {o : MS → Option (Bool × MS)} {fo : Nat} (ho : ∀ {T : MS}  {v : Bool} {T' : MS}, o T  = some (v, T') → jM κ yX2_isO (ws_ yX2_isO cX2_isO 3 (some .boolean)) fo 0 0 [.ref (G 0)] (wM κ G T) (fun u w' => u = some (.int (b2i v)) ∧ w' = wM κ G T'))  {v : Bool} {T' : MS} : ∀ (n : Nat) (T : MS), m_isP_b9 o N n T = some (v, T') → J κ Γ ((fo + 1), 0, 0, (fun u w' => u = some (.int (b2i v)) ∧ w' = wM κ G T')) 2 (wM κ G T) 0 0 9 [some (.ref (G 0)), none] [] := by
  intro n
  induction n with
  | zero => intro _ h; cases h
  | succ n ih =>
    intro T h
    rw [m_isP_b9] at h
    refine j_aload_n C dX2_isP_9 rfl rfl ?_
    obtain ⟨v2, e1, h⟩ := ob h
    refine jm_Vi hκ C (mt_m_sign hκ G e1) hG_m_sign hy_m_sign rfl rfl dX2_isP_10 (jfit.of (by omega) (by decide) (Nat.zero_le _) (Nat.zero_le _) (Nat.le_of_ble_eq_true rfl)) rfl ?_
    refine j_bipush C (v := 42) dX2_isP_13 rfl ?_
    refine j_icmp_ne C dX2_isP_15 (tgt := 23) (by decide) (fun c => ?_) (fun c => ?_)
    · replace h := im c h
      refine j_aload_n C dX2_isP_23 rfl rfl ?_
      obtain ⟨v4, e3, h⟩ := ob h
      refine jm_Vi hκ C (mt_m_sign hκ G e3) hG_m_sign hy_m_sign rfl rfl dX2_isP_24 (jfit.of (by omega) (by decide) (Nat.zero_le _) (Nat.zero_le _) (Nat.le_of_ble_eq_true rfl)) rfl ?_
      refine j_bipush C (v := 47) dX2_isP_27 rfl ?_
      refine j_icmp_ne C dX2_isP_29 (tgt := 37) (by decide) (fun c => ?_) (fun c => ?_)
      · replace h := im c h
        refine j_aload_n C dX2_isP_37 rfl rfl ?_
        obtain ⟨v6, e5, h⟩ := ob h
        refine jm_Vi hκ C (mt_m_sign hκ G e5) hG_m_sign hy_m_sign rfl rfl dX2_isP_38 (jfit.of (by omega) (by decide) (Nat.zero_le _) (Nat.zero_le _) (Nat.le_of_ble_eq_true rfl)) rfl ?_
        refine j_bipush C (v := 37) dX2_isP_41 rfl ?_
        refine j_icmp_ne C dX2_isP_43 (tgt := 51) (by decide) (fun c => ?_) (fun c => ?_)
        · replace h := im c h
          refine j_iconst C (v := (-1)) dX2_isP_51 rfl ?_
          exact j_sub (wm_isP_b52 hκ N C ho _ (fun _ h => ih _ h) _ _ h) ⟨rfl, trivial⟩
        replace h := ip c h
        refine j_bipush C (v := 15) dX2_isP_46 rfl ?_
        refine j_goto C dX2_isP_48 (tgt := 52) (by decide) ?_
        exact j_sub (wm_isP_b52 hκ N C ho _ (fun _ h => ih _ h) _ _ h) ⟨rfl, trivial⟩
      replace h := ip c h
      refine j_bipush C (v := 14) dX2_isP_32 rfl ?_
      refine j_goto C dX2_isP_34 (tgt := 52) (by decide) ?_
      exact j_sub (wm_isP_b52 hκ N C ho _ (fun _ h => ih _ h) _ _ h) ⟨rfl, trivial⟩
    replace h := ip c h
    refine j_bipush C (v := 13) dX2_isP_18 rfl ?_
    refine j_goto C dX2_isP_20 (tgt := 52) (by decide) ?_
    exact j_sub (wm_isP_b52 hκ N C ho _ (fun _ h => ih _ h) _ _ h) ⟨rfl, trivial⟩
def m_isP (o : MS → Option (Bool × MS)) (N : Nat) (T : MS) : Option (Bool × MS) :=
  b2 (o T) fun v2 T3 =>
  (if (b2i v2) = 0 then
  some (false, T3)
  else
  m_isP_b9 o N N T3)
theorem mt_m_isP {κ : jK} (hκ : jStd κ) (N : Nat) (G : Nat → Nat) {o : MS → Option (Bool × MS)} {fo : Nat} (ho : ∀ {T : MS}  {v : Bool} {T' : MS}, o T  = some (v, T') → jM κ yX2_isO (ws_ yX2_isO cX2_isO 3 (some .boolean)) fo 0 0 [.ref (G 0)] (wM κ G T) (fun u w' => u = some (.int (b2i v)) ∧ w' = wM κ G T')) {T : MS} {v : Bool} {T' : MS} (h : m_isP o N T = some (v, T')) : jM κ yX2_isP (ws_ yX2_isP cX2_isP 2 (some .boolean)) (fo + 1) 0 0 [.ref (G 0)] (wM κ G T) (fun u w' => u = some (.int (b2i v)) ∧ w' = wM κ G T') := by
  rw [m_isP] at h
  refine jM.of (by decide) rfl (Nat.le_of_ble_eq_true rfl) fun Γ C _ => ?_
  show J κ Γ ((fo + 1), 0, 0, (fun u w' => u = some (.int (b2i v)) ∧ w' = wM κ G T')) 2 (wM κ G T) 0 0 0 [some (.ref (G 0)), none] []
  refine j_aload_n C dX2_isP_0 rfl rfl ?_
  obtain ⟨v2, T3, e1, h⟩ := ob2 h
  refine jm_Vi hκ C (ho e1) hG_m_isO hy_m_isO rfl rfl dX2_isP_1 (jfit.of (by omega) (by decide) (Nat.zero_le _) (Nat.zero_le _) (Nat.le_of_ble_eq_true rfl)) rfl ?_
  refine j_if_ne C dX2_isP_4 (tgt := 9) (by decide) (fun c => ?_) (fun c => ?_)
  · replace h := im c h
    exact j_sub (wm_isP_b9 hκ N C ho N _ h) ⟨rfl, trivial⟩
  replace h := ip c h
  refine j_iconst C (v := 0) dX2_isP_7 rfl ?_
  obtain ⟨rfl, rfl⟩ := sp2 h
  exact j_zret C rfl dX2_isP_8 (Nat.zero_le _) (Nat.zero_le _) ⟨rfl, rfl⟩
/-! isS -/
def m_isS_b38 (o : MS → Option (Bool × MS)) (N : Nat) (k9 : MS → Option (Bool × MS)) (T : MS) (s1 : Int32) : Option (Bool × MS) :=
  (if 0 ≤ s1 then
  nm (sI T 14 ((T.1 14) + 1)) fun T1 =>
  b2 (m_isP o N T1) fun v3 T4 =>
  (if (b2i v3) = 0 then
  some (false, T4)
  else
  b2 (m_codes T4 s1) fun v6 T7 =>
  k9 T7)
  else
  some (true, T))
theorem wm_isS_b38 {κ : jK} (hκ : jStd κ) (N : Nat) {Γ : jG} (C : jC κ Γ cX2_isS 2 RX2 (some .boolean)) {G : Nat → Nat} {o : MS → Option (Bool × MS)} {fo : Nat} (ho : ∀ {T : MS}  {v : Bool} {T' : MS}, o T  = some (v, T') → jM κ yX2_isO (ws_ yX2_isO cX2_isO 3 (some .boolean)) fo 0 0 [.ref (G 0)] (wM κ G T) (fun u w' => u = some (.int (b2i v)) ∧ w' = wM κ G T'))  (k9 : MS → Option (Bool × MS)) {v : Bool} {T' : MS} (hk9 : ∀ (T : MS), k9 T = some (v, T') → J κ Γ ((fo + 2), 0, 0, (fun u w' => u = some (.int (b2i v)) ∧ w' = wM κ G T')) 2 (wM κ G T) 0 0 9 [some (.ref (G 0)), none] []) : ∀ (T : MS) (s1 : Int32), m_isS_b38 o N k9 T s1 = some (v, T') → J κ Γ ((fo + 2), 0, 0, (fun u w' => u = some (.int (b2i v)) ∧ w' = wM κ G T')) 2 (wM κ G T) 0 0 38 [some (.ref (G 0)), none] [.int s1] := by
  intro T s1 h
  rw [m_isS_b38] at h
  refine j_istore_n C dX2_isS_38 rfl (by decide) rfl ?_
  refine j_iload_n C dX2_isS_39 rfl rfl ?_
  refine j_if_ge C dX2_isS_40 (tgt := 45) (by decide) (fun c => ?_) (fun c => ?_)
  · replace h := ip c h
    refine j_aload_n C dX2_isS_45 rfl rfl ?_
    refine j_dup C dX2_isS_46 rfl ?_
    refine jm_geti hκ C 14 (by decide) rfl q1651 dX2_isS_47 ?_
    refine j_iconst C (v := 1) dX2_isS_50 rfl ?_
    refine j_iadd C dX2_isS_51 ?_
    refine jm_puti hκ C 14 (by decide) rfl rfl rfl q1651 dX2_isS_52 ?_
    refine jm_nmT h (fun T1 h => ?_)
    refine j_aload_n C dX2_isS_55 rfl rfl ?_
    obtain ⟨v3, T4, e2, h⟩ := ob2 h
    refine jm_Vi hκ C (mt_m_isP hκ N G ho e2) hG_m_isP hy_m_isP rfl rfl dX2_isS_56 (jfit.of (by omega) (by decide) (Nat.zero_le _) (Nat.zero_le _) (Nat.le_of_ble_eq_true rfl)) rfl ?_
    refine j_if_ne C dX2_isS_59 (tgt := 64) (by decide) (fun c => ?_) (fun c => ?_)
    · replace h := im c h
      refine j_aload_n C dX2_isS_64 rfl rfl ?_
      refine j_iload_n C dX2_isS_65 rfl rfl ?_
      obtain ⟨v6, T7, e5, h⟩ := ob2 h
      refine jm_Vi hκ C (mt_m_codes hκ G e5) hG_m_codes hy_m_codes rfl rfl dX2_isS_66 (jfit.of (by omega) (by decide) (Nat.zero_le _) (Nat.zero_le _) (Nat.le_of_ble_eq_true rfl)) rfl ?_
      refine j_pop C dX2_isS_69 rfl ?_
      refine j_goto C dX2_isS_70 (tgt := 9) (by decide) ?_
      exact j_sub (hk9 _ h) ⟨rfl, trivial⟩
    replace h := ip c h
    refine j_iconst C (v := 0) dX2_isS_62 rfl ?_
    obtain ⟨rfl, rfl⟩ := sp2 h
    exact j_zret C rfl dX2_isS_63 (Nat.zero_le _) (Nat.zero_le _) ⟨rfl, rfl⟩
  replace h := im c h
  refine j_iconst C (v := 1) dX2_isS_43 rfl ?_
  obtain ⟨rfl, rfl⟩ := sp2 h
  exact j_zret C rfl dX2_isS_44 (Nat.zero_le _) (Nat.zero_le _) ⟨rfl, rfl⟩
def m_isS_b9 (o : MS → Option (Bool × MS)) (N : Nat) : Nat → MS → Option (Bool × MS)
  | 0, _ => none
  | n + 1, T =>
    (m_sign T).bind fun v2 =>
    (if v2 = 43 then
    m_isS_b38 o N (fun t => m_isS_b9 o N n t) T 11
    else
    (m_sign T).bind fun v4 =>
    (if v4 = 45 then
    m_isS_b38 o N (fun t => m_isS_b9 o N n t) T 12
    else
    m_isS_b38 o N (fun t => m_isS_b9 o N n t) T (-1)))
theorem wm_isS_b9 {κ : jK} (hκ : jStd κ) (N : Nat) {Γ : jG} (C : jC κ Γ cX2_isS 2 RX2 (some .boolean)) {G : Nat → Nat} {o : MS → Option (Bool × MS)} {fo : Nat} (ho : ∀ {T : MS}  {v : Bool} {T' : MS}, o T  = some (v, T') → jM κ yX2_isO (ws_ yX2_isO cX2_isO 3 (some .boolean)) fo 0 0 [.ref (G 0)] (wM κ G T) (fun u w' => u = some (.int (b2i v)) ∧ w' = wM κ G T'))  {v : Bool} {T' : MS} : ∀ (n : Nat) (T : MS), m_isS_b9 o N n T = some (v, T') → J κ Γ ((fo + 2), 0, 0, (fun u w' => u = some (.int (b2i v)) ∧ w' = wM κ G T')) 2 (wM κ G T) 0 0 9 [some (.ref (G 0)), none] [] := by
  intro n
  induction n with
  | zero => intro _ h; cases h
  | succ n ih =>
    intro T h
    rw [m_isS_b9] at h
    refine j_aload_n C dX2_isS_9 rfl rfl ?_
    obtain ⟨v2, e1, h⟩ := ob h
    refine jm_Vi hκ C (mt_m_sign hκ G e1) hG_m_sign hy_m_sign rfl rfl dX2_isS_10 (jfit.of (by omega) (by decide) (Nat.zero_le _) (Nat.zero_le _) (Nat.le_of_ble_eq_true rfl)) rfl ?_
    refine j_bipush C (v := 43) dX2_isS_13 rfl ?_
    refine j_icmp_ne C dX2_isS_15 (tgt := 23) (by decide) (fun c => ?_) (fun c => ?_)
    · replace h := im c h
      refine j_aload_n C dX2_isS_23 rfl rfl ?_
      obtain ⟨v4, e3, h⟩ := ob h
      refine jm_Vi hκ C (mt_m_sign hκ G e3) hG_m_sign hy_m_sign rfl rfl dX2_isS_24 (jfit.of (by omega) (by decide) (Nat.zero_le _) (Nat.zero_le _) (Nat.le_of_ble_eq_true rfl)) rfl ?_
      refine j_bipush C (v := 45) dX2_isS_27 rfl ?_
      refine j_icmp_ne C dX2_isS_29 (tgt := 37) (by decide) (fun c => ?_) (fun c => ?_)
      · replace h := im c h
        refine j_iconst C (v := (-1)) dX2_isS_37 rfl ?_
        exact j_sub (wm_isS_b38 hκ N C ho _ (fun _ h => ih _ h) _ _ h) ⟨rfl, trivial⟩
      replace h := ip c h
      refine j_bipush C (v := 12) dX2_isS_32 rfl ?_
      refine j_goto C dX2_isS_34 (tgt := 38) (by decide) ?_
      exact j_sub (wm_isS_b38 hκ N C ho _ (fun _ h => ih _ h) _ _ h) ⟨rfl, trivial⟩
    replace h := ip c h
    refine j_bipush C (v := 11) dX2_isS_18 rfl ?_
    refine j_goto C dX2_isS_20 (tgt := 38) (by decide) ?_
    exact j_sub (wm_isS_b38 hκ N C ho _ (fun _ h => ih _ h) _ _ h) ⟨rfl, trivial⟩
def m_isS (o : MS → Option (Bool × MS)) (N : Nat) (T : MS) : Option (Bool × MS) :=
  b2 (m_isP o N T) fun v2 T3 =>
  (if (b2i v2) = 0 then
  some (false, T3)
  else
  m_isS_b9 o N N T3)
theorem mt_m_isS {κ : jK} (hκ : jStd κ) (N : Nat) (G : Nat → Nat) {o : MS → Option (Bool × MS)} {fo : Nat} (ho : ∀ {T : MS}  {v : Bool} {T' : MS}, o T  = some (v, T') → jM κ yX2_isO (ws_ yX2_isO cX2_isO 3 (some .boolean)) fo 0 0 [.ref (G 0)] (wM κ G T) (fun u w' => u = some (.int (b2i v)) ∧ w' = wM κ G T')) {T : MS} {v : Bool} {T' : MS} (h : m_isS o N T = some (v, T')) : jM κ yX2_isS (ws_ yX2_isS cX2_isS 2 (some .boolean)) (fo + 2) 0 0 [.ref (G 0)] (wM κ G T) (fun u w' => u = some (.int (b2i v)) ∧ w' = wM κ G T') := by
  rw [m_isS] at h
  refine jM.of (by decide) rfl (Nat.le_of_ble_eq_true rfl) fun Γ C _ => ?_
  show J κ Γ ((fo + 2), 0, 0, (fun u w' => u = some (.int (b2i v)) ∧ w' = wM κ G T')) 2 (wM κ G T) 0 0 0 [some (.ref (G 0)), none] []
  refine j_aload_n C dX2_isS_0 rfl rfl ?_
  obtain ⟨v2, T3, e1, h⟩ := ob2 h
  refine jm_Vi hκ C (mt_m_isP hκ N G ho e1) hG_m_isP hy_m_isP rfl rfl dX2_isS_1 (jfit.of (by omega) (by decide) (Nat.zero_le _) (Nat.zero_le _) (Nat.le_of_ble_eq_true rfl)) rfl ?_
  refine j_if_ne C dX2_isS_4 (tgt := 9) (by decide) (fun c => ?_) (fun c => ?_)
  · replace h := im c h
    exact j_sub (wm_isS_b9 hκ N C ho N _ h) ⟨rfl, trivial⟩
  replace h := ip c h
  refine j_iconst C (v := 0) dX2_isS_7 rfl ?_
  obtain ⟨rfl, rfl⟩ := sp2 h
  exact j_zret C rfl dX2_isS_8 (Nat.zero_le _) (Nat.zero_le _) ⟨rfl, rfl⟩
/-! isB -/
def m_isB_b52 (o : MS → Option (Bool × MS)) (N : Nat) (T : MS) (s1 : Int32) : Option (Bool × MS) :=
  (if 0 ≤ s1 then
  nm (sI T 14 ((T.1 14) + 1)) fun T1 =>
  b2 (m_isS o N T1) fun v3 T4 =>
  (if (b2i v3) = 0 then
  some (false, T4)
  else
  b2 (m_codes T4 s1) fun v6 T7 =>
  (if (b2i v6) = 0 then
  some (false, T7)
  else
  some (true, T7)))
  else
  some (true, T))
theorem wm_isB_b52 {κ : jK} (hκ : jStd κ) (N : Nat) {Γ : jG} (C : jC κ Γ cX2_isB 2 RX2 (some .boolean)) {G : Nat → Nat} {o : MS → Option (Bool × MS)} {fo : Nat} (ho : ∀ {T : MS}  {v : Bool} {T' : MS}, o T  = some (v, T') → jM κ yX2_isO (ws_ yX2_isO cX2_isO 3 (some .boolean)) fo 0 0 [.ref (G 0)] (wM κ G T) (fun u w' => u = some (.int (b2i v)) ∧ w' = wM κ G T'))  {v : Bool} {T' : MS} : ∀ (T : MS) (s1 : Int32), m_isB_b52 o N T s1 = some (v, T') → J κ Γ ((fo + 3), 0, 0, (fun u w' => u = some (.int (b2i v)) ∧ w' = wM κ G T')) 2 (wM κ G T) 0 0 52 [some (.ref (G 0)), none] [.int s1] := by
  intro T s1 h
  rw [m_isB_b52] at h
  refine j_istore_n C dX2_isB_52 rfl (by decide) rfl ?_
  refine j_iload_n C dX2_isB_53 rfl rfl ?_
  refine j_if_ge C dX2_isB_54 (tgt := 59) (by decide) (fun c => ?_) (fun c => ?_)
  · replace h := ip c h
    refine j_aload_n C dX2_isB_59 rfl rfl ?_
    refine j_dup C dX2_isB_60 rfl ?_
    refine jm_geti hκ C 14 (by decide) rfl q1651 dX2_isB_61 ?_
    refine j_iconst C (v := 1) dX2_isB_64 rfl ?_
    refine j_iadd C dX2_isB_65 ?_
    refine jm_puti hκ C 14 (by decide) rfl rfl rfl q1651 dX2_isB_66 ?_
    refine jm_nmT h (fun T1 h => ?_)
    refine j_aload_n C dX2_isB_69 rfl rfl ?_
    obtain ⟨v3, T4, e2, h⟩ := ob2 h
    refine jm_Vi hκ C (mt_m_isS hκ N G ho e2) hG_m_isS hy_m_isS rfl rfl dX2_isB_70 (jfit.of (by omega) (by decide) (Nat.zero_le _) (Nat.zero_le _) (Nat.le_of_ble_eq_true rfl)) rfl ?_
    refine j_if_eq C dX2_isB_73 (tgt := 88) (by decide) (fun c => ?_) (fun c => ?_)
    · replace h := ip c h
      refine j_iconst C (v := 0) dX2_isB_88 rfl ?_
      obtain ⟨rfl, rfl⟩ := sp2 h
      exact j_zret C rfl dX2_isB_89 (Nat.zero_le _) (Nat.zero_le _) ⟨rfl, rfl⟩
    replace h := im c h
    refine j_aload_n C dX2_isB_76 rfl rfl ?_
    refine j_iload_n C dX2_isB_77 rfl rfl ?_
    obtain ⟨v6, T7, e5, h⟩ := ob2 h
    refine jm_Vi hκ C (mt_m_codes hκ G e5) hG_m_codes hy_m_codes rfl rfl dX2_isB_78 (jfit.of (by omega) (by decide) (Nat.zero_le _) (Nat.zero_le _) (Nat.le_of_ble_eq_true rfl)) rfl ?_
    refine j_if_eq C dX2_isB_81 (tgt := 88) (by decide) (fun c => ?_) (fun c => ?_)
    · replace h := ip c h
      refine j_iconst C (v := 0) dX2_isB_88 rfl ?_
      obtain ⟨rfl, rfl⟩ := sp2 h
      exact j_zret C rfl dX2_isB_89 (Nat.zero_le _) (Nat.zero_le _) ⟨rfl, rfl⟩
    replace h := im c h
    refine j_iconst C (v := 1) dX2_isB_84 rfl ?_
    refine j_goto C dX2_isB_85 (tgt := 89) (by decide) ?_
    obtain ⟨rfl, rfl⟩ := sp2 h
    exact j_zret C rfl dX2_isB_89 (Nat.zero_le _) (Nat.zero_le _) ⟨rfl, rfl⟩
  replace h := im c h
  refine j_iconst C (v := 1) dX2_isB_57 rfl ?_
  obtain ⟨rfl, rfl⟩ := sp2 h
  exact j_zret C rfl dX2_isB_58 (Nat.zero_le _) (Nat.zero_le _) ⟨rfl, rfl⟩
def m_isB (o : MS → Option (Bool × MS)) (N : Nat) (T : MS) : Option (Bool × MS) :=
  b2 (m_isS o N T) fun v2 T3 =>
  (if (b2i v2) = 0 then
  some (false, T3)
  else
  (m_sign T3).bind fun v5 =>
  (if v5 = 60 then
  m_isB_b52 o N T3 8
  else
  (m_sign T3).bind fun v7 =>
  (if v7 = 61 then
  m_isB_b52 o N T3 9
  else
  (m_sign T3).bind fun v9 =>
  (if v9 = 62 then
  m_isB_b52 o N T3 10
  else
  m_isB_b52 o N T3 (-1)))))
theorem mt_m_isB {κ : jK} (hκ : jStd κ) (N : Nat) (G : Nat → Nat) {o : MS → Option (Bool × MS)} {fo : Nat} (ho : ∀ {T : MS}  {v : Bool} {T' : MS}, o T  = some (v, T') → jM κ yX2_isO (ws_ yX2_isO cX2_isO 3 (some .boolean)) fo 0 0 [.ref (G 0)] (wM κ G T) (fun u w' => u = some (.int (b2i v)) ∧ w' = wM κ G T')) {T : MS} {v : Bool} {T' : MS} (h : m_isB o N T = some (v, T')) : jM κ yX2_isB (ws_ yX2_isB cX2_isB 2 (some .boolean)) (fo + 3) 0 0 [.ref (G 0)] (wM κ G T) (fun u w' => u = some (.int (b2i v)) ∧ w' = wM κ G T') := by
  rw [m_isB] at h
  refine jM.of (by decide) rfl (Nat.le_of_ble_eq_true rfl) fun Γ C _ => ?_
  show J κ Γ ((fo + 3), 0, 0, (fun u w' => u = some (.int (b2i v)) ∧ w' = wM κ G T')) 2 (wM κ G T) 0 0 0 [some (.ref (G 0)), none] []
  refine j_aload_n C dX2_isB_0 rfl rfl ?_
  obtain ⟨v2, T3, e1, h⟩ := ob2 h
  refine jm_Vi hκ C (mt_m_isS hκ N G ho e1) hG_m_isS hy_m_isS rfl rfl dX2_isB_1 (jfit.of (by omega) (by decide) (Nat.zero_le _) (Nat.zero_le _) (Nat.le_of_ble_eq_true rfl)) rfl ?_
  refine j_if_ne C dX2_isB_4 (tgt := 9) (by decide) (fun c => ?_) (fun c => ?_)
  · replace h := im c h
    refine j_aload_n C dX2_isB_9 rfl rfl ?_
    obtain ⟨v5, e4, h⟩ := ob h
    refine jm_Vi hκ C (mt_m_sign hκ G e4) hG_m_sign hy_m_sign rfl rfl dX2_isB_10 (jfit.of (by omega) (by decide) (Nat.zero_le _) (Nat.zero_le _) (Nat.le_of_ble_eq_true rfl)) rfl ?_
    refine j_bipush C (v := 60) dX2_isB_13 rfl ?_
    refine j_icmp_ne C dX2_isB_15 (tgt := 23) (by decide) (fun c => ?_) (fun c => ?_)
    · replace h := im c h
      refine j_aload_n C dX2_isB_23 rfl rfl ?_
      obtain ⟨v7, e6, h⟩ := ob h
      refine jm_Vi hκ C (mt_m_sign hκ G e6) hG_m_sign hy_m_sign rfl rfl dX2_isB_24 (jfit.of (by omega) (by decide) (Nat.zero_le _) (Nat.zero_le _) (Nat.le_of_ble_eq_true rfl)) rfl ?_
      refine j_bipush C (v := 61) dX2_isB_27 rfl ?_
      refine j_icmp_ne C dX2_isB_29 (tgt := 37) (by decide) (fun c => ?_) (fun c => ?_)
      · replace h := im c h
        refine j_aload_n C dX2_isB_37 rfl rfl ?_
        obtain ⟨v9, e8, h⟩ := ob h
        refine jm_Vi hκ C (mt_m_sign hκ G e8) hG_m_sign hy_m_sign rfl rfl dX2_isB_38 (jfit.of (by omega) (by decide) (Nat.zero_le _) (Nat.zero_le _) (Nat.le_of_ble_eq_true rfl)) rfl ?_
        refine j_bipush C (v := 62) dX2_isB_41 rfl ?_
        refine j_icmp_ne C dX2_isB_43 (tgt := 51) (by decide) (fun c => ?_) (fun c => ?_)
        · replace h := im c h
          refine j_iconst C (v := (-1)) dX2_isB_51 rfl ?_
          exact j_sub (wm_isB_b52 hκ N C ho _ _ h) ⟨rfl, trivial⟩
        replace h := ip c h
        refine j_bipush C (v := 10) dX2_isB_46 rfl ?_
        refine j_goto C dX2_isB_48 (tgt := 52) (by decide) ?_
        exact j_sub (wm_isB_b52 hκ N C ho _ _ h) ⟨rfl, trivial⟩
      replace h := ip c h
      refine j_bipush C (v := 9) dX2_isB_32 rfl ?_
      refine j_goto C dX2_isB_34 (tgt := 52) (by decide) ?_
      exact j_sub (wm_isB_b52 hκ N C ho _ _ h) ⟨rfl, trivial⟩
    replace h := ip c h
    refine j_bipush C (v := 8) dX2_isB_18 rfl ?_
    refine j_goto C dX2_isB_20 (tgt := 52) (by decide) ?_
    exact j_sub (wm_isB_b52 hκ N C ho _ _ h) ⟨rfl, trivial⟩
  replace h := ip c h
  refine j_iconst C (v := 0) dX2_isB_7 rfl ?_
  obtain ⟨rfl, rfl⟩ := sp2 h
  exact j_zret C rfl dX2_isB_8 (Nat.zero_le _) (Nat.zero_le _) ⟨rfl, rfl⟩
/-! isA -/
def m_isA_b9 (o : MS → Option (Bool × MS)) (N : Nat) : Nat → MS → Option (Bool × MS)
  | 0, _ => none
  | n + 1, T =>
    b2 (m_is T 38) fun v2 T3 =>
    (if (b2i v2) = 0 then
    some (true, T3)
    else
    b2 (m_isB o N T3) fun v5 T6 =>
    (if (b2i v5) = 0 then
    some (false, T6)
    else
    b2 (m_codes T6 7) fun v8 T9 =>
    m_isA_b9 o N n T9))
theorem wm_isA_b9 {κ : jK} (hκ : jStd κ) (N : Nat) {Γ : jG} (C : jC κ Γ cX2_isA 1 RX2 (some .boolean)) {G : Nat → Nat} {o : MS → Option (Bool × MS)} {fo : Nat} (ho : ∀ {T : MS}  {v : Bool} {T' : MS}, o T  = some (v, T') → jM κ yX2_isO (ws_ yX2_isO cX2_isO 3 (some .boolean)) fo 0 0 [.ref (G 0)] (wM κ G T) (fun u w' => u = some (.int (b2i v)) ∧ w' = wM κ G T'))  {v : Bool} {T' : MS} : ∀ (n : Nat) (T : MS), m_isA_b9 o N n T = some (v, T') → J κ Γ ((fo + 4), 0, 0, (fun u w' => u = some (.int (b2i v)) ∧ w' = wM κ G T')) 1 (wM κ G T) 0 0 9 [some (.ref (G 0))] [] := by
  intro n
  induction n with
  | zero => intro _ h; cases h
  | succ n ih =>
    intro T h
    rw [m_isA_b9] at h
    refine j_aload_n C dX2_isA_9 rfl rfl ?_
    refine j_bipush C (v := 38) dX2_isA_10 rfl ?_
    obtain ⟨v2, T3, e1, h⟩ := ob2 h
    refine jm_Vi hκ C (mt_m_is hκ G e1) hG_m_is hy_m_is rfl rfl dX2_isA_12 (jfit.of (by omega) (by decide) (Nat.zero_le _) (Nat.zero_le _) (Nat.le_of_ble_eq_true rfl)) rfl ?_
    refine j_if_eq C dX2_isA_15 (tgt := 37) (by decide) (fun c => ?_) (fun c => ?_)
    · replace h := ip c h
      refine j_iconst C (v := 1) dX2_isA_37 rfl ?_
      obtain ⟨rfl, rfl⟩ := sp2 h
      exact j_zret C rfl dX2_isA_38 (Nat.zero_le _) (Nat.zero_le _) ⟨rfl, rfl⟩
    replace h := im c h
    refine j_aload_n C dX2_isA_18 rfl rfl ?_
    obtain ⟨v5, T6, e4, h⟩ := ob2 h
    refine jm_Vi hκ C (mt_m_isB hκ N G ho e4) hG_m_isB hy_m_isB rfl rfl dX2_isA_19 (jfit.of (by omega) (by decide) (Nat.zero_le _) (Nat.zero_le _) (Nat.le_of_ble_eq_true rfl)) rfl ?_
    refine j_if_ne C dX2_isA_22 (tgt := 27) (by decide) (fun c => ?_) (fun c => ?_)
    · replace h := im c h
      refine j_aload_n C dX2_isA_27 rfl rfl ?_
      refine j_bipush C (v := 7) dX2_isA_28 rfl ?_
      obtain ⟨v8, T9, e7, h⟩ := ob2 h
      refine jm_Vi hκ C (mt_m_codes hκ G e7) hG_m_codes hy_m_codes rfl rfl dX2_isA_30 (jfit.of (by omega) (by decide) (Nat.zero_le _) (Nat.zero_le _) (Nat.le_of_ble_eq_true rfl)) rfl ?_
      refine j_pop C dX2_isA_33 rfl ?_
      refine j_goto C dX2_isA_34 (tgt := 9) (by decide) ?_
      exact j_sub (ih _ h) ⟨rfl, trivial⟩
    replace h := ip c h
    refine j_iconst C (v := 0) dX2_isA_25 rfl ?_
    obtain ⟨rfl, rfl⟩ := sp2 h
    exact j_zret C rfl dX2_isA_26 (Nat.zero_le _) (Nat.zero_le _) ⟨rfl, rfl⟩
def m_isA (o : MS → Option (Bool × MS)) (N : Nat) (T : MS) : Option (Bool × MS) :=
  b2 (m_isB o N T) fun v2 T3 =>
  (if (b2i v2) = 0 then
  some (false, T3)
  else
  m_isA_b9 o N N T3)
theorem mt_m_isA {κ : jK} (hκ : jStd κ) (N : Nat) (G : Nat → Nat) {o : MS → Option (Bool × MS)} {fo : Nat} (ho : ∀ {T : MS}  {v : Bool} {T' : MS}, o T  = some (v, T') → jM κ yX2_isO (ws_ yX2_isO cX2_isO 3 (some .boolean)) fo 0 0 [.ref (G 0)] (wM κ G T) (fun u w' => u = some (.int (b2i v)) ∧ w' = wM κ G T')) {T : MS} {v : Bool} {T' : MS} (h : m_isA o N T = some (v, T')) : jM κ yX2_isA (ws_ yX2_isA cX2_isA 1 (some .boolean)) (fo + 4) 0 0 [.ref (G 0)] (wM κ G T) (fun u w' => u = some (.int (b2i v)) ∧ w' = wM κ G T') := by
  rw [m_isA] at h
  refine jM.of (by decide) rfl (Nat.le_of_ble_eq_true rfl) fun Γ C _ => ?_
  show J κ Γ ((fo + 4), 0, 0, (fun u w' => u = some (.int (b2i v)) ∧ w' = wM κ G T')) 1 (wM κ G T) 0 0 0 [some (.ref (G 0))] []
  refine j_aload_n C dX2_isA_0 rfl rfl ?_
  obtain ⟨v2, T3, e1, h⟩ := ob2 h
  refine jm_Vi hκ C (mt_m_isB hκ N G ho e1) hG_m_isB hy_m_isB rfl rfl dX2_isA_1 (jfit.of (by omega) (by decide) (Nat.zero_le _) (Nat.zero_le _) (Nat.le_of_ble_eq_true rfl)) rfl ?_
  refine j_if_ne C dX2_isA_4 (tgt := 9) (by decide) (fun c => ?_) (fun c => ?_)
  · replace h := im c h
    exact j_sub (wm_isA_b9 hκ N C ho N _ h) ⟨rfl, trivial⟩
  replace h := ip c h
  refine j_iconst C (v := 0) dX2_isA_7 rfl ?_
  obtain ⟨rfl, rfl⟩ := sp2 h
  exact j_zret C rfl dX2_isA_8 (Nat.zero_le _) (Nat.zero_le _) ⟨rfl, rfl⟩
/-! isE -/
def m_isE_b9 (o : MS → Option (Bool × MS)) (N : Nat) : Nat → MS → Option (Bool × MS)
  | 0, _ => none
  | n + 1, T =>
    b2 (m_is T 124) fun v2 T3 =>
    (if (b2i v2) = 0 then
    some (true, T3)
    else
    b2 (m_isA o N T3) fun v5 T6 =>
    (if (b2i v5) = 0 then
    some (false, T6)
    else
    b2 (m_codes T6 6) fun v8 T9 =>
    m_isE_b9 o N n T9))
theorem wm_isE_b9 {κ : jK} (hκ : jStd κ) (N : Nat) {Γ : jG} (C : jC κ Γ cX2_isE 1 RX2 (some .boolean)) {G : Nat → Nat} {o : MS → Option (Bool × MS)} {fo : Nat} (ho : ∀ {T : MS}  {v : Bool} {T' : MS}, o T  = some (v, T') → jM κ yX2_isO (ws_ yX2_isO cX2_isO 3 (some .boolean)) fo 0 0 [.ref (G 0)] (wM κ G T) (fun u w' => u = some (.int (b2i v)) ∧ w' = wM κ G T'))  {v : Bool} {T' : MS} : ∀ (n : Nat) (T : MS), m_isE_b9 o N n T = some (v, T') → J κ Γ ((fo + 5), 0, 0, (fun u w' => u = some (.int (b2i v)) ∧ w' = wM κ G T')) 1 (wM κ G T) 0 0 9 [some (.ref (G 0))] [] := by
  intro n
  induction n with
  | zero => intro _ h; cases h
  | succ n ih =>
    intro T h
    rw [m_isE_b9] at h
    refine j_aload_n C dX2_isE_9 rfl rfl ?_
    refine j_bipush C (v := 124) dX2_isE_10 rfl ?_
    obtain ⟨v2, T3, e1, h⟩ := ob2 h
    refine jm_Vi hκ C (mt_m_is hκ G e1) hG_m_is hy_m_is rfl rfl dX2_isE_12 (jfit.of (by omega) (by decide) (Nat.zero_le _) (Nat.zero_le _) (Nat.le_of_ble_eq_true rfl)) rfl ?_
    refine j_if_eq C dX2_isE_15 (tgt := 37) (by decide) (fun c => ?_) (fun c => ?_)
    · replace h := ip c h
      refine j_iconst C (v := 1) dX2_isE_37 rfl ?_
      obtain ⟨rfl, rfl⟩ := sp2 h
      exact j_zret C rfl dX2_isE_38 (Nat.zero_le _) (Nat.zero_le _) ⟨rfl, rfl⟩
    replace h := im c h
    refine j_aload_n C dX2_isE_18 rfl rfl ?_
    obtain ⟨v5, T6, e4, h⟩ := ob2 h
    refine jm_Vi hκ C (mt_m_isA hκ N G ho e4) hG_m_isA hy_m_isA rfl rfl dX2_isE_19 (jfit.of (by omega) (by decide) (Nat.zero_le _) (Nat.zero_le _) (Nat.le_of_ble_eq_true rfl)) rfl ?_
    refine j_if_ne C dX2_isE_22 (tgt := 27) (by decide) (fun c => ?_) (fun c => ?_)
    · replace h := im c h
      refine j_aload_n C dX2_isE_27 rfl rfl ?_
      refine j_bipush C (v := 6) dX2_isE_28 rfl ?_
      obtain ⟨v8, T9, e7, h⟩ := ob2 h
      refine jm_Vi hκ C (mt_m_codes hκ G e7) hG_m_codes hy_m_codes rfl rfl dX2_isE_30 (jfit.of (by omega) (by decide) (Nat.zero_le _) (Nat.zero_le _) (Nat.le_of_ble_eq_true rfl)) rfl ?_
      refine j_pop C dX2_isE_33 rfl ?_
      refine j_goto C dX2_isE_34 (tgt := 9) (by decide) ?_
      exact j_sub (ih _ h) ⟨rfl, trivial⟩
    replace h := ip c h
    refine j_iconst C (v := 0) dX2_isE_25 rfl ?_
    obtain ⟨rfl, rfl⟩ := sp2 h
    exact j_zret C rfl dX2_isE_26 (Nat.zero_le _) (Nat.zero_le _) ⟨rfl, rfl⟩
def m_isE (o : MS → Option (Bool × MS)) (N : Nat) (T : MS) : Option (Bool × MS) :=
  b2 (m_isA o N T) fun v2 T3 =>
  (if (b2i v2) = 0 then
  some (false, T3)
  else
  m_isE_b9 o N N T3)
theorem mt_m_isE {κ : jK} (hκ : jStd κ) (N : Nat) (G : Nat → Nat) {o : MS → Option (Bool × MS)} {fo : Nat} (ho : ∀ {T : MS}  {v : Bool} {T' : MS}, o T  = some (v, T') → jM κ yX2_isO (ws_ yX2_isO cX2_isO 3 (some .boolean)) fo 0 0 [.ref (G 0)] (wM κ G T) (fun u w' => u = some (.int (b2i v)) ∧ w' = wM κ G T')) {T : MS} {v : Bool} {T' : MS} (h : m_isE o N T = some (v, T')) : jM κ yX2_isE (ws_ yX2_isE cX2_isE 1 (some .boolean)) (fo + 5) 0 0 [.ref (G 0)] (wM κ G T) (fun u w' => u = some (.int (b2i v)) ∧ w' = wM κ G T') := by
  rw [m_isE] at h
  refine jM.of (by decide) rfl (Nat.le_of_ble_eq_true rfl) fun Γ C _ => ?_
  show J κ Γ ((fo + 5), 0, 0, (fun u w' => u = some (.int (b2i v)) ∧ w' = wM κ G T')) 1 (wM κ G T) 0 0 0 [some (.ref (G 0))] []
  refine j_aload_n C dX2_isE_0 rfl rfl ?_
  obtain ⟨v2, T3, e1, h⟩ := ob2 h
  refine jm_Vi hκ C (mt_m_isA hκ N G ho e1) hG_m_isA hy_m_isA rfl rfl dX2_isE_1 (jfit.of (by omega) (by decide) (Nat.zero_le _) (Nat.zero_le _) (Nat.le_of_ble_eq_true rfl)) rfl ?_
  refine j_if_ne C dX2_isE_4 (tgt := 9) (by decide) (fun c => ?_) (fun c => ?_)
  · replace h := im c h
    exact j_sub (wm_isE_b9 hκ N C ho N _ h) ⟨rfl, trivial⟩
  replace h := ip c h
  refine j_iconst C (v := 0) dX2_isE_7 rfl ?_
  obtain ⟨rfl, rfl⟩ := sp2 h
  exact j_zret C rfl dX2_isE_8 (Nat.zero_le _) (Nat.zero_le _) ⟨rfl, rfl⟩
/-! nameOf -/
def m_nameOf (p1 : Int32) : Option Int32 :=
  (if p1 = 100 then
  some 3
  else if p1 = 109 then
  some 2
  else if p1 = 110 then
  some 5
  else if p1 = 112 then
  some 4
  else if p1 = 117 then
  some 1
  else if p1 = 118 then
  some 0
  else 
  some (-1))
theorem mt_m_nameOf {κ : jK} (hκ : jStd κ) {w : jW} {p1 : Int32} {v : Int32} (h : m_nameOf p1 = some v) : jM κ yX2_nameOf (ws_ yX2_nameOf cX2_nameOf 1 (some .int)) 0 0 0 [.int p1] (w) (fun u w' => u = some (.int v) ∧ w' = w) := by
  rw [m_nameOf] at h
  refine jM.of (by decide) rfl (Nat.le_of_ble_eq_true rfl) fun Γ C _ => ?_
  show J κ Γ (0, 0, 0, (fun u w' => u = some (.int v) ∧ w' = w)) 1 (w) 0 0 0 [some (.int p1)] []
  refine j_iload_n C dX2_nameOf_0 rfl rfl ?_
  by_cases c1_0 : p1 = 100
  · replace h := ip c1_0 h
    refine j_tabEq C dX2_nameOf_1 c1_0 (a := 100) rfl (by decide) (by decide) rfl (tgt := 98) (by decide) ?_
    refine j_iconst C (v := 3) dX2_nameOf_98 rfl ?_
    obtain rfl := sp1 h
    exact j_iret C dX2_nameOf_99 (Nat.zero_le _) (Nat.zero_le _) ⟨rfl, rfl⟩
  replace h := im c1_0 h
  by_cases c1_1 : p1 = 109
  · replace h := ip c1_1 h
    refine j_tabEq C dX2_nameOf_1 c1_1 (a := 109) rfl (by decide) (by decide) rfl (tgt := 96) (by decide) ?_
    refine j_iconst C (v := 2) dX2_nameOf_96 rfl ?_
    obtain rfl := sp1 h
    exact j_iret C dX2_nameOf_97 (Nat.zero_le _) (Nat.zero_le _) ⟨rfl, rfl⟩
  replace h := im c1_1 h
  by_cases c1_2 : p1 = 110
  · replace h := ip c1_2 h
    refine j_tabEq C dX2_nameOf_1 c1_2 (a := 110) rfl (by decide) (by decide) rfl (tgt := 102) (by decide) ?_
    refine j_iconst C (v := 5) dX2_nameOf_102 rfl ?_
    obtain rfl := sp1 h
    exact j_iret C dX2_nameOf_103 (Nat.zero_le _) (Nat.zero_le _) ⟨rfl, rfl⟩
  replace h := im c1_2 h
  by_cases c1_3 : p1 = 112
  · replace h := ip c1_3 h
    refine j_tabEq C dX2_nameOf_1 c1_3 (a := 112) rfl (by decide) (by decide) rfl (tgt := 100) (by decide) ?_
    refine j_iconst C (v := 4) dX2_nameOf_100 rfl ?_
    obtain rfl := sp1 h
    exact j_iret C dX2_nameOf_101 (Nat.zero_le _) (Nat.zero_le _) ⟨rfl, rfl⟩
  replace h := im c1_3 h
  by_cases c1_4 : p1 = 117
  · replace h := ip c1_4 h
    refine j_tabEq C dX2_nameOf_1 c1_4 (a := 117) rfl (by decide) (by decide) rfl (tgt := 94) (by decide) ?_
    refine j_iconst C (v := 1) dX2_nameOf_94 rfl ?_
    obtain rfl := sp1 h
    exact j_iret C dX2_nameOf_95 (Nat.zero_le _) (Nat.zero_le _) ⟨rfl, rfl⟩
  replace h := im c1_4 h
  by_cases c1_5 : p1 = 118
  · replace h := ip c1_5 h
    refine j_tabEq C dX2_nameOf_1 c1_5 (a := 118) rfl (by decide) (by decide) rfl (tgt := 92) (by decide) ?_
    refine j_iconst C (v := 0) dX2_nameOf_92 rfl ?_
    obtain rfl := sp1 h
    exact j_iret C dX2_nameOf_93 (Nat.zero_le _) (Nat.zero_le _) ⟨rfl, rfl⟩
  replace h := im c1_5 h
  refine j_tabDef C [100, 109, 110, 112, 117, 118] dX2_nameOf_1 ⟨tab_ne c1_0 rfl, tab_ne c1_1 rfl, tab_ne c1_2 rfl, tab_ne c1_3 rfl, tab_ne c1_4 rfl, tab_ne c1_5 rfl, trivial⟩ rfl rfl (tgt := 104) (by decide) ?_
  refine j_iconst C (v := (-1)) dX2_nameOf_104 rfl ?_
  obtain rfl := sp1 h
  exact j_iret C dX2_nameOf_105 (Nat.zero_le _) (Nat.zero_le _) ⟨rfl, rfl⟩
/-! isO -/
def m_isO_b11 (o : MS → Option (Bool × MS)) (N : Nat) : Nat → MS → Int32 → Int32 → Option (Bool × MS)
  | 0, _, _, _ => none
  | n + 1, T, l1, l2 =>
    (if 4 ≤ l2 then
    b2 (m_codes T (18 + l1)) fun v2 T3 =>
    some (v2, T3)
    else
    (m_isDigit T).bind fun v5 =>
    (if (b2i v5) = 0 then
    b2 (m_codes T (18 + l1)) fun v7 T8 =>
    some (v7, T8)
    else
    chk 120 (T.1 14) (
    nm (((10 * l1) + (T.2.1 7 (T.1 14).toNatClampNeg)) - 48) fun x10 =>
    nm (sI T 14 ((T.1 14) + 1)) fun T11 =>
    nm (l2 + 1) fun x12 =>
    m_isO_b11 o N n T11 x10 x12)))
theorem wm_isO_b11 {κ : jK} (hκ : jStd κ) (N : Nat) {Γ : jG} (C : jC κ Γ cX2_isO 3 RX2 (some .boolean)) {G : Nat → Nat} (d : Nat) {o : MS → Option (Bool × MS)} (ho : ∀ {T : MS}  {v : Bool} {T' : MS}, o T  = some (v, T') → jM κ yX2_isO (ws_ yX2_isO cX2_isO 3 (some .boolean)) (6 * d + 1) 0 0 [.ref (G 0)] (wM κ G T) (fun u w' => u = some (.int (b2i v)) ∧ w' = wM κ G T'))  {v : Bool} {T' : MS} : ∀ (n : Nat) (T : MS) (l1 : Int32) (l2 : Int32), m_isO_b11 o N n T l1 l2 = some (v, T') → J κ Γ ((6 * (d + 1) + 1), 0, 0, (fun u w' => u = some (.int (b2i v)) ∧ w' = wM κ G T')) 3 (wM κ G T) 0 0 11 [some (.ref (G 0)), some (.int l1), some (.int l2)] [] := by
  intro n
  induction n with
  | zero => intro _ _ _ h; cases h
  | succ n ih =>
    intro T l1 l2 h
    rw [m_isO_b11] at h
    refine j_iload_n C dX2_isO_11 rfl rfl ?_
    refine j_iconst C (v := 4) dX2_isO_12 rfl ?_
    refine j_icmp_ge C dX2_isO_13 (tgt := 57) (by decide) (fun c => ?_) (fun c => ?_)
    · replace h := ip c h
      refine j_aload_n C dX2_isO_57 rfl rfl ?_
      refine j_bipush C (v := 18) dX2_isO_58 rfl ?_
      refine j_iload_n C dX2_isO_60 rfl rfl ?_
      refine j_iadd C dX2_isO_61 ?_
      obtain ⟨v2, T3, e1, h⟩ := ob2 h
      refine jm_Vi hκ C (mt_m_codes hκ G e1) hG_m_codes hy_m_codes rfl rfl dX2_isO_62 (jfit.of (by omega) (by decide) (Nat.zero_le _) (Nat.zero_le _) (Nat.le_of_ble_eq_true rfl)) rfl ?_
      obtain ⟨rfl, rfl⟩ := sp2 h
      exact j_zret C (b2i_z _) dX2_isO_65 (Nat.zero_le _) (Nat.zero_le _) ⟨rfl, rfl⟩
    replace h := im c h
    refine j_aload_n C dX2_isO_16 rfl rfl ?_
    obtain ⟨v5, e4, h⟩ := ob h
    refine jm_Vi hκ C (mt_m_isDigit hκ G e4) hG_m_isDigit hy_m_isDigit rfl rfl dX2_isO_17 (jfit.of (by omega) (by decide) (Nat.zero_le _) (Nat.zero_le _) (Nat.le_of_ble_eq_true rfl)) rfl ?_
    refine j_if_eq C dX2_isO_20 (tgt := 57) (by decide) (fun c => ?_) (fun c => ?_)
    · replace h := ip c h
      refine j_aload_n C dX2_isO_57 rfl rfl ?_
      refine j_bipush C (v := 18) dX2_isO_58 rfl ?_
      refine j_iload_n C dX2_isO_60 rfl rfl ?_
      refine j_iadd C dX2_isO_61 ?_
      obtain ⟨v7, T8, e6, h⟩ := ob2 h
      refine jm_Vi hκ C (mt_m_codes hκ G e6) hG_m_codes hy_m_codes rfl rfl dX2_isO_62 (jfit.of (by omega) (by decide) (Nat.zero_le _) (Nat.zero_le _) (Nat.le_of_ble_eq_true rfl)) rfl ?_
      obtain ⟨rfl, rfl⟩ := sp2 h
      exact j_zret C (b2i_z _) dX2_isO_65 (Nat.zero_le _) (Nat.zero_le _) ⟨rfl, rfl⟩
    replace h := im c h
    refine j_bipush C (v := 10) dX2_isO_23 rfl ?_
    refine j_iload_n C dX2_isO_25 rfl rfl ?_
    refine j_imul C dX2_isO_26 ?_
    refine j_aload_n C dX2_isO_27 rfl rfl ?_
    refine jm_geta hκ C 7 (by decide) rfl q1644 dX2_isO_28 ?_
    refine j_aload_n C dX2_isO_31 rfl rfl ?_
    refine jm_geti hκ C 14 (by decide) rfl q1651 dX2_isO_32 ?_
    obtain ⟨b9, h⟩ := chk_some h
    refine jm_iald hκ C 7 rfl b9 dX2_isO_35 ?_
    refine j_iadd C dX2_isO_36 ?_
    refine j_bipush C (v := 48) dX2_isO_37 rfl ?_
    refine j_isub C dX2_isO_39 ?_
    refine j_nmI h (fun x10 h => ?_)
    refine j_istore_n C dX2_isO_40 rfl (by decide) rfl ?_
    refine j_aload_n C dX2_isO_41 rfl rfl ?_
    refine j_dup C dX2_isO_42 rfl ?_
    refine jm_geti hκ C 14 (by decide) rfl q1651 dX2_isO_43 ?_
    refine j_iconst C (v := 1) dX2_isO_46 rfl ?_
    refine j_iadd C dX2_isO_47 ?_
    refine jm_puti hκ C 14 (by decide) rfl rfl rfl q1651 dX2_isO_48 ?_
    refine jm_nmT h (fun T11 h => ?_)
    refine j_iincN C h dX2_isO_51 rfl rfl (by decide) rfl (fun x12 h => ?_)
    refine j_goto C dX2_isO_54 (tgt := 11) (by decide) ?_
    exact j_sub (ih _ _ _ h) ⟨rfl, ⟨rfl, ⟨rfl, trivial⟩⟩⟩
def m_isO_b214 (o : MS → Option (Bool × MS)) (N : Nat) (l2 : Bool) (T : MS) : Option (Bool × MS) :=
  nm (sI T 15 ((T.1 15) - 1)) fun T1 =>
  some (l2, T1)
theorem wm_isO_b214 {κ : jK} (hκ : jStd κ) (N : Nat) {Γ : jG} (C : jC κ Γ cX2_isO 3 RX2 (some .boolean)) {G : Nat → Nat} (d : Nat) {o : MS → Option (Bool × MS)} (ho : ∀ {T : MS}  {v : Bool} {T' : MS}, o T  = some (v, T') → jM κ yX2_isO (ws_ yX2_isO cX2_isO 3 (some .boolean)) (6 * d + 1) 0 0 [.ref (G 0)] (wM κ G T) (fun u w' => u = some (.int (b2i v)) ∧ w' = wM κ G T')) (l2 : Bool) {v : Bool} {T' : MS} : ∀ (T : MS), m_isO_b214 o N l2 T = some (v, T') → J κ Γ ((6 * (d + 1) + 1), 0, 0, (fun u w' => u = some (.int (b2i v)) ∧ w' = wM κ G T')) 3 (wM κ G T) 0 0 214 [some (.ref (G 0)), none, some (.int (b2i l2))] [] := by
  intro T h
  rw [m_isO_b214] at h
  refine j_aload_n C dX2_isO_214 rfl rfl ?_
  refine j_dup C dX2_isO_215 rfl ?_
  refine jm_geti hκ C 15 (by decide) rfl q1652 dX2_isO_216 ?_
  refine j_iconst C (v := 1) dX2_isO_219 rfl ?_
  refine j_isub C dX2_isO_220 ?_
  refine jm_puti hκ C 15 (by decide) rfl rfl rfl q1652 dX2_isO_221 ?_
  refine jm_nmT h (fun T1 h => ?_)
  refine j_iload_n C dX2_isO_224 rfl rfl ?_
  obtain ⟨rfl, rfl⟩ := sp2 h
  exact j_zret C (b2i_z _) dX2_isO_225 (Nat.zero_le _) (Nat.zero_le _) ⟨rfl, rfl⟩
def m_isO (N : Nat) : Nat → MS → Option (Bool × MS)
  | 0, _ => none
  | d + 1, T =>
    (m_isDigit T).bind fun v2 =>
    (if (b2i v2) = 0 then
    (m_sign T).bind fun v4 =>
    (m_nameOf v4).bind fun v6 =>
    (if v6 < 0 then
    (if (T.1 15) = 6 then
    some (false, T)
    else
    nm (sI T 15 ((T.1 15) + 1)) fun T7 =>
    b2 (m_is T7 33) fun v9 T10 =>
    (if (b2i v9) = 0 then
    b2 (m_is T10 45) fun v12 T13 =>
    (if (b2i v12) = 0 then
    b2 (m_is T13 40) fun v15 T16 =>
    (if (b2i v15) = 0 then
    m_isO_b214 (m_isO N d) N false T16
    else
    b2 (m_isE (m_isO N d) N T16) fun v18 T19 =>
    (if (b2i v18) = 0 then
    m_isO_b214 (m_isO N d) N false T19
    else
    b2 (m_is T19 41) fun v21 T22 =>
    (if (b2i v21) = 0 then
    m_isO_b214 (m_isO N d) N false T22
    else
    m_isO_b214 (m_isO N d) N true T22)))
    else
    b2 (m_isO N d T13) fun v24 T25 =>
    (if (b2i v24) = 0 then
    m_isO_b214 (m_isO N d) N false T25
    else
    b2 (m_codes T25 17) fun v27 T28 =>
    (if (b2i v27) = 0 then
    m_isO_b214 (m_isO N d) N false T28
    else
    m_isO_b214 (m_isO N d) N true T28)))
    else
    b2 (m_isO N d T10) fun v30 T31 =>
    (if (b2i v30) = 0 then
    m_isO_b214 (m_isO N d) N false T31
    else
    b2 (m_codes T31 16) fun v33 T34 =>
    (if (b2i v33) = 0 then
    m_isO_b214 (m_isO N d) N false T34
    else
    m_isO_b214 (m_isO N d) N true T34))))
    else
    nm (sI T 14 ((T.1 14) + 1)) fun T35 =>
    b2 (m_codes T35 v6) fun v37 T38 =>
    some (v37, T38))
    else
    m_isO_b11 (m_isO N d) N N T 0 0)
theorem mt_m_isO {κ : jK} (hκ : jStd κ) (N : Nat) (G : Nat → Nat) : ∀ (d : Nat) {T : MS} {v : Bool} {T' : MS}, m_isO N d T = some (v, T') → jM κ yX2_isO (ws_ yX2_isO cX2_isO 3 (some .boolean)) (6 * d + 1) 0 0 [.ref (G 0)] (wM κ G T) (fun u w' => u = some (.int (b2i v)) ∧ w' = wM κ G T') := by
  intro d
  induction d with
  | zero => intro _ _ _ h; cases h
  | succ d ih =>
    intro T  v T' h
    rw [m_isO] at h
    refine jM.of (by decide) rfl (Nat.le_of_ble_eq_true rfl) fun Γ C _ => ?_
    show J κ Γ ((6 * (d + 1) + 1), 0, 0, (fun u w' => u = some (.int (b2i v)) ∧ w' = wM κ G T')) 3 (wM κ G T) 0 0 0 [some (.ref (G 0)), none, none] []
    refine j_aload_n C dX2_isO_0 rfl rfl ?_
    obtain ⟨v2, e1, h⟩ := ob h
    refine jm_Vi hκ C (mt_m_isDigit hκ G e1) hG_m_isDigit hy_m_isDigit rfl rfl dX2_isO_1 (jfit.of (by omega) (by decide) (Nat.zero_le _) (Nat.zero_le _) (Nat.le_of_ble_eq_true rfl)) rfl ?_
    refine j_if_eq C dX2_isO_4 (tgt := 66) (by decide) (fun c => ?_) (fun c => ?_)
    · replace h := ip c h
      refine j_aload_n C dX2_isO_66 rfl rfl ?_
      obtain ⟨v4, e3, h⟩ := ob h
      refine jm_Vi hκ C (mt_m_sign hκ G e3) hG_m_sign hy_m_sign rfl rfl dX2_isO_67 (jfit.of (by omega) (by decide) (Nat.zero_le _) (Nat.zero_le _) (Nat.le_of_ble_eq_true rfl)) rfl ?_
      obtain ⟨v6, e5, h⟩ := ob h
      refine j_Si hκ.1 C (mt_m_nameOf hκ e5) hG_m_nameOf hy_m_nameOf rfl dX2_isO_70 (jfit.of (by omega) (by decide) (Nat.zero_le _) (Nat.zero_le _) (Nat.le_of_ble_eq_true rfl)) rfl ?_
      refine j_istore_n C dX2_isO_73 rfl (by decide) rfl ?_
      refine j_iload_n C dX2_isO_74 rfl rfl ?_
      refine j_if_lt C dX2_isO_75 (tgt := 94) (by decide) (fun c => ?_) (fun c => ?_)
      · replace h := ip c h
        refine j_aload_n C dX2_isO_94 rfl rfl ?_
        refine jm_geti hκ C 15 (by decide) rfl q1652 dX2_isO_95 ?_
        refine j_bipush C (v := 6) dX2_isO_98 rfl ?_
        refine j_icmp_ne C dX2_isO_100 (tgt := 105) (by decide) (fun c => ?_) (fun c => ?_)
        · replace h := im c h
          refine j_aload_n C dX2_isO_105 rfl rfl ?_
          refine j_dup C dX2_isO_106 rfl ?_
          refine jm_geti hκ C 15 (by decide) rfl q1652 dX2_isO_107 ?_
          refine j_iconst C (v := 1) dX2_isO_110 rfl ?_
          refine j_iadd C dX2_isO_111 ?_
          refine jm_puti hκ C 15 (by decide) rfl rfl rfl q1652 dX2_isO_112 ?_
          refine jm_nmT h (fun T7 h => ?_)
          refine j_aload_n C dX2_isO_115 rfl rfl ?_
          refine j_bipush C (v := 33) dX2_isO_116 rfl ?_
          obtain ⟨v9, T10, e8, h⟩ := ob2 h
          refine jm_Vi hκ C (mt_m_is hκ G e8) hG_m_is hy_m_is rfl rfl dX2_isO_118 (jfit.of (by omega) (by decide) (Nat.zero_le _) (Nat.zero_le _) (Nat.le_of_ble_eq_true rfl)) rfl ?_
          refine j_if_eq C dX2_isO_121 (tgt := 149) (by decide) (fun c => ?_) (fun c => ?_)
          · replace h := ip c h
            refine j_aload_n C dX2_isO_149 rfl rfl ?_
            refine j_bipush C (v := 45) dX2_isO_150 rfl ?_
            obtain ⟨v12, T13, e11, h⟩ := ob2 h
            refine jm_Vi hκ C (mt_m_is hκ G e11) hG_m_is hy_m_is rfl rfl dX2_isO_152 (jfit.of (by omega) (by decide) (Nat.zero_le _) (Nat.zero_le _) (Nat.le_of_ble_eq_true rfl)) rfl ?_
            refine j_if_eq C dX2_isO_155 (tgt := 183) (by decide) (fun c => ?_) (fun c => ?_)
            · replace h := ip c h
              refine j_aload_n C dX2_isO_183 rfl rfl ?_
              refine j_bipush C (v := 40) dX2_isO_184 rfl ?_
              obtain ⟨v15, T16, e14, h⟩ := ob2 h
              refine jm_Vi hκ C (mt_m_is hκ G e14) hG_m_is hy_m_is rfl rfl dX2_isO_186 (jfit.of (by omega) (by decide) (Nat.zero_le _) (Nat.zero_le _) (Nat.le_of_ble_eq_true rfl)) rfl ?_
              refine j_if_eq C dX2_isO_189 (tgt := 212) (by decide) (fun c => ?_) (fun c => ?_)
              · replace h := ip c h
                refine j_iconst C (v := 0) dX2_isO_212 rfl ?_
                refine j_istore_n C dX2_isO_213 rfl (by decide) rfl ?_
                exact j_sub (wm_isO_b214 hκ N C d ih _ _ h) ⟨rfl, ⟨rfl, trivial⟩⟩
              replace h := im c h
              refine j_aload_n C dX2_isO_192 rfl rfl ?_
              obtain ⟨v18, T19, e17, h⟩ := ob2 h
              refine jm_Vi hκ C (mt_m_isE hκ N G ih e17) hG_m_isE hy_m_isE rfl rfl dX2_isO_193 (jfit.of (by omega) (by decide) (Nat.zero_le _) (Nat.zero_le _) (Nat.le_of_ble_eq_true rfl)) rfl ?_
              refine j_if_eq C dX2_isO_196 (tgt := 212) (by decide) (fun c => ?_) (fun c => ?_)
              · replace h := ip c h
                refine j_iconst C (v := 0) dX2_isO_212 rfl ?_
                refine j_istore_n C dX2_isO_213 rfl (by decide) rfl ?_
                exact j_sub (wm_isO_b214 hκ N C d ih _ _ h) ⟨rfl, ⟨rfl, trivial⟩⟩
              replace h := im c h
              refine j_aload_n C dX2_isO_199 rfl rfl ?_
              refine j_bipush C (v := 41) dX2_isO_200 rfl ?_
              obtain ⟨v21, T22, e20, h⟩ := ob2 h
              refine jm_Vi hκ C (mt_m_is hκ G e20) hG_m_is hy_m_is rfl rfl dX2_isO_202 (jfit.of (by omega) (by decide) (Nat.zero_le _) (Nat.zero_le _) (Nat.le_of_ble_eq_true rfl)) rfl ?_
              refine j_if_eq C dX2_isO_205 (tgt := 212) (by decide) (fun c => ?_) (fun c => ?_)
              · replace h := ip c h
                refine j_iconst C (v := 0) dX2_isO_212 rfl ?_
                refine j_istore_n C dX2_isO_213 rfl (by decide) rfl ?_
                exact j_sub (wm_isO_b214 hκ N C d ih _ _ h) ⟨rfl, ⟨rfl, trivial⟩⟩
              replace h := im c h
              refine j_iconst C (v := 1) dX2_isO_208 rfl ?_
              refine j_goto C dX2_isO_209 (tgt := 213) (by decide) ?_
              refine j_istore_n C dX2_isO_213 rfl (by decide) rfl ?_
              exact j_sub (wm_isO_b214 hκ N C d ih _ _ h) ⟨rfl, ⟨rfl, trivial⟩⟩
            replace h := im c h
            refine j_aload_n C dX2_isO_158 rfl rfl ?_
            obtain ⟨v24, T25, e23, h⟩ := ob2 h
            refine jm_Vi hκ C (ih e23) hG_m_isO hy_m_isO rfl rfl dX2_isO_159 (jfit.of (by omega) (by decide) (Nat.zero_le _) (Nat.zero_le _) (Nat.le_of_ble_eq_true rfl)) rfl ?_
            refine j_if_eq C dX2_isO_162 (tgt := 178) (by decide) (fun c => ?_) (fun c => ?_)
            · replace h := ip c h
              refine j_iconst C (v := 0) dX2_isO_178 rfl ?_
              refine j_istore_n C dX2_isO_179 rfl (by decide) rfl ?_
              refine j_goto C dX2_isO_180 (tgt := 214) (by decide) ?_
              exact j_sub (wm_isO_b214 hκ N C d ih _ _ h) ⟨rfl, ⟨rfl, trivial⟩⟩
            replace h := im c h
            refine j_aload_n C dX2_isO_165 rfl rfl ?_
            refine j_bipush C (v := 17) dX2_isO_166 rfl ?_
            obtain ⟨v27, T28, e26, h⟩ := ob2 h
            refine jm_Vi hκ C (mt_m_codes hκ G e26) hG_m_codes hy_m_codes rfl rfl dX2_isO_168 (jfit.of (by omega) (by decide) (Nat.zero_le _) (Nat.zero_le _) (Nat.le_of_ble_eq_true rfl)) rfl ?_
            refine j_if_eq C dX2_isO_171 (tgt := 178) (by decide) (fun c => ?_) (fun c => ?_)
            · replace h := ip c h
              refine j_iconst C (v := 0) dX2_isO_178 rfl ?_
              refine j_istore_n C dX2_isO_179 rfl (by decide) rfl ?_
              refine j_goto C dX2_isO_180 (tgt := 214) (by decide) ?_
              exact j_sub (wm_isO_b214 hκ N C d ih _ _ h) ⟨rfl, ⟨rfl, trivial⟩⟩
            replace h := im c h
            refine j_iconst C (v := 1) dX2_isO_174 rfl ?_
            refine j_goto C dX2_isO_175 (tgt := 179) (by decide) ?_
            refine j_istore_n C dX2_isO_179 rfl (by decide) rfl ?_
            refine j_goto C dX2_isO_180 (tgt := 214) (by decide) ?_
            exact j_sub (wm_isO_b214 hκ N C d ih _ _ h) ⟨rfl, ⟨rfl, trivial⟩⟩
          replace h := im c h
          refine j_aload_n C dX2_isO_124 rfl rfl ?_
          obtain ⟨v30, T31, e29, h⟩ := ob2 h
          refine jm_Vi hκ C (ih e29) hG_m_isO hy_m_isO rfl rfl dX2_isO_125 (jfit.of (by omega) (by decide) (Nat.zero_le _) (Nat.zero_le _) (Nat.le_of_ble_eq_true rfl)) rfl ?_
          refine j_if_eq C dX2_isO_128 (tgt := 144) (by decide) (fun c => ?_) (fun c => ?_)
          · replace h := ip c h
            refine j_iconst C (v := 0) dX2_isO_144 rfl ?_
            refine j_istore_n C dX2_isO_145 rfl (by decide) rfl ?_
            refine j_goto C dX2_isO_146 (tgt := 214) (by decide) ?_
            exact j_sub (wm_isO_b214 hκ N C d ih _ _ h) ⟨rfl, ⟨rfl, trivial⟩⟩
          replace h := im c h
          refine j_aload_n C dX2_isO_131 rfl rfl ?_
          refine j_bipush C (v := 16) dX2_isO_132 rfl ?_
          obtain ⟨v33, T34, e32, h⟩ := ob2 h
          refine jm_Vi hκ C (mt_m_codes hκ G e32) hG_m_codes hy_m_codes rfl rfl dX2_isO_134 (jfit.of (by omega) (by decide) (Nat.zero_le _) (Nat.zero_le _) (Nat.le_of_ble_eq_true rfl)) rfl ?_
          refine j_if_eq C dX2_isO_137 (tgt := 144) (by decide) (fun c => ?_) (fun c => ?_)
          · replace h := ip c h
            refine j_iconst C (v := 0) dX2_isO_144 rfl ?_
            refine j_istore_n C dX2_isO_145 rfl (by decide) rfl ?_
            refine j_goto C dX2_isO_146 (tgt := 214) (by decide) ?_
            exact j_sub (wm_isO_b214 hκ N C d ih _ _ h) ⟨rfl, ⟨rfl, trivial⟩⟩
          replace h := im c h
          refine j_iconst C (v := 1) dX2_isO_140 rfl ?_
          refine j_goto C dX2_isO_141 (tgt := 145) (by decide) ?_
          refine j_istore_n C dX2_isO_145 rfl (by decide) rfl ?_
          refine j_goto C dX2_isO_146 (tgt := 214) (by decide) ?_
          exact j_sub (wm_isO_b214 hκ N C d ih _ _ h) ⟨rfl, ⟨rfl, trivial⟩⟩
        replace h := ip c h
        refine j_iconst C (v := 0) dX2_isO_103 rfl ?_
        obtain ⟨rfl, rfl⟩ := sp2 h
        exact j_zret C rfl dX2_isO_104 (Nat.zero_le _) (Nat.zero_le _) ⟨rfl, rfl⟩
      replace h := im c h
      refine j_aload_n C dX2_isO_78 rfl rfl ?_
      refine j_dup C dX2_isO_79 rfl ?_
      refine jm_geti hκ C 14 (by decide) rfl q1651 dX2_isO_80 ?_
      refine j_iconst C (v := 1) dX2_isO_83 rfl ?_
      refine j_iadd C dX2_isO_84 ?_
      refine jm_puti hκ C 14 (by decide) rfl rfl rfl q1651 dX2_isO_85 ?_
      refine jm_nmT h (fun T35 h => ?_)
      refine j_aload_n C dX2_isO_88 rfl rfl ?_
      refine j_iload_n C dX2_isO_89 rfl rfl ?_
      obtain ⟨v37, T38, e36, h⟩ := ob2 h
      refine jm_Vi hκ C (mt_m_codes hκ G e36) hG_m_codes hy_m_codes rfl rfl dX2_isO_90 (jfit.of (by omega) (by decide) (Nat.zero_le _) (Nat.zero_le _) (Nat.le_of_ble_eq_true rfl)) rfl ?_
      obtain ⟨rfl, rfl⟩ := sp2 h
      exact j_zret C (b2i_z _) dX2_isO_93 (Nat.zero_le _) (Nat.zero_le _) ⟨rfl, rfl⟩
    replace h := im c h
    refine j_iconst C (v := 0) dX2_isO_7 rfl ?_
    refine j_istore_n C dX2_isO_8 rfl (by decide) rfl ?_
    refine j_iconst C (v := 0) dX2_isO_9 rfl ?_
    refine j_istore_n C dX2_isO_10 rfl (by decide) rfl ?_
    exact j_sub (wm_isO_b11 hκ N C d ih N _ _ _ h) ⟨rfl, ⟨rfl, ⟨rfl, trivial⟩⟩⟩
/-! isLine -/
def m_isLine_b71 (N : Nat) (T : MS) : Option (Bool × MS) :=
  nm (sI T 17 ((T.1 17) + 1)) fun T1 =>
  chk 61 (T.1 17) (
  nm (sA T1 20 (T.1 17).toNatClampNeg (T1.1 16)) fun T2 =>
  some (true, T2))
theorem wm_isLine_b71 {κ : jK} (hκ : jStd κ) (N : Nat) {Γ : jG} (C : jC κ Γ cX2_isLine 1 RX2 (some .boolean)) {G : Nat → Nat}  {v : Bool} {T' : MS} : ∀ (T : MS), m_isLine_b71 N T = some (v, T') → J κ Γ (67, 0, 0, (fun u w' => u = some (.int (b2i v)) ∧ w' = wM κ G T')) 1 (wM κ G T) 0 0 71 [some (.ref (G 0))] [] := by
  intro T h
  rw [m_isLine_b71] at h
  refine j_aload_n C dX2_isLine_71 rfl rfl ?_
  refine jm_geta hκ C 20 (by decide) rfl q1657 dX2_isLine_72 ?_
  refine j_aload_n C dX2_isLine_75 rfl rfl ?_
  refine j_dup C dX2_isLine_76 rfl ?_
  refine jm_geti hκ C 17 (by decide) rfl q1654 dX2_isLine_77 ?_
  refine j_dup_x1 C dX2_isLine_80 rfl rfl ?_
  refine j_iconst C (v := 1) dX2_isLine_81 rfl ?_
  refine j_iadd C dX2_isLine_82 ?_
  refine jm_puti hκ C 17 (by decide) rfl rfl rfl q1654 dX2_isLine_83 ?_
  refine jm_nmT h (fun T1 h => ?_)
  refine j_aload_n C dX2_isLine_86 rfl rfl ?_
  refine jm_geti hκ C 16 (by decide) rfl q1653 dX2_isLine_87 ?_
  obtain ⟨b3, h⟩ := chk_some h
  refine jm_iast hκ C 20 rfl b3 dX2_isLine_90 ?_
  refine jm_nmT h (fun T2 h => ?_)
  refine j_iconst C (v := 1) dX2_isLine_91 rfl ?_
  obtain ⟨rfl, rfl⟩ := sp2 h
  exact j_zret C rfl dX2_isLine_92 (Nat.zero_le _) (Nat.zero_le _) ⟨rfl, rfl⟩
def m_isLine (N : Nat) (T : MS) : Option (Bool × MS) :=
  chk 61 (T.1 17) (
  nm (sA T 18 (T.1 17).toNatClampNeg (T.1 16)) fun T1 =>
  b2 (m_isE (m_isO N 10) N T1) fun v4 T5 =>
  (if (b2i v4) = 0 then
  some (false, T5)
  else
  chk 61 (T5.1 17) (
  chk 61 (T5.1 17) (
  nm (sA T5 19 (T5.1 17).toNatClampNeg (T5.2.1 18 (T5.1 17).toNatClampNeg)) fun T7 =>
  b2 (m_is T7 63) fun v10 T11 =>
  (if (b2i v10) = 0 then
  m_isLine_b71 N T11
  else
  chk 61 (T11.1 17) (
  nm (sA T11 19 (T11.1 17).toNatClampNeg (T11.1 16)) fun T12 =>
  b2 (m_isE (m_isO N 10) N T12) fun v15 T16 =>
  (if (b2i v15) = 0 then
  some (false, T16)
  else
  m_isLine_b71 N T16)))))))
theorem mt_m_isLine {κ : jK} (hκ : jStd κ) (N : Nat) (G : Nat → Nat) {T : MS} {v : Bool} {T' : MS} (h : m_isLine N T = some (v, T')) : jM κ yX2_isLine (ws_ yX2_isLine cX2_isLine 1 (some .boolean)) 67 0 0 [.ref (G 0)] (wM κ G T) (fun u w' => u = some (.int (b2i v)) ∧ w' = wM κ G T') := by
  rw [m_isLine] at h
  refine jM.of (by decide) rfl (Nat.le_of_ble_eq_true rfl) fun Γ C _ => ?_
  show J κ Γ (67, 0, 0, (fun u w' => u = some (.int (b2i v)) ∧ w' = wM κ G T')) 1 (wM κ G T) 0 0 0 [some (.ref (G 0))] []
  refine j_aload_n C dX2_isLine_0 rfl rfl ?_
  refine jm_geta hκ C 18 (by decide) rfl q1655 dX2_isLine_1 ?_
  refine j_aload_n C dX2_isLine_4 rfl rfl ?_
  refine jm_geti hκ C 17 (by decide) rfl q1654 dX2_isLine_5 ?_
  refine j_aload_n C dX2_isLine_8 rfl rfl ?_
  refine jm_geti hκ C 16 (by decide) rfl q1653 dX2_isLine_9 ?_
  obtain ⟨b2, h⟩ := chk_some h
  refine jm_iast hκ C 18 rfl b2 dX2_isLine_12 ?_
  refine jm_nmT h (fun T1 h => ?_)
  refine j_aload_n C dX2_isLine_13 rfl rfl ?_
  obtain ⟨v4, T5, e3, h⟩ := ob2 h
  refine jm_Vi hκ C (mt_m_isE hκ N G (mt_m_isO hκ N G 10) e3) hG_m_isE hy_m_isE rfl rfl dX2_isLine_14 (jfit.of (Nat.le_of_ble_eq_true rfl) (by decide) (Nat.zero_le _) (Nat.zero_le _) (Nat.le_of_ble_eq_true rfl)) rfl ?_
  refine j_if_ne C dX2_isLine_17 (tgt := 22) (by decide) (fun c => ?_) (fun c => ?_)
  · replace h := im c h
    refine j_aload_n C dX2_isLine_22 rfl rfl ?_
    refine jm_geta hκ C 19 (by decide) rfl q1656 dX2_isLine_23 ?_
    refine j_aload_n C dX2_isLine_26 rfl rfl ?_
    refine jm_geti hκ C 17 (by decide) rfl q1654 dX2_isLine_27 ?_
    refine j_aload_n C dX2_isLine_30 rfl rfl ?_
    refine jm_geta hκ C 18 (by decide) rfl q1655 dX2_isLine_31 ?_
    refine j_aload_n C dX2_isLine_34 rfl rfl ?_
    refine jm_geti hκ C 17 (by decide) rfl q1654 dX2_isLine_35 ?_
    obtain ⟨b6, h⟩ := chk_some h
    refine jm_iald hκ C 18 rfl b6 dX2_isLine_38 ?_
    obtain ⟨b8, h⟩ := chk_some h
    refine jm_iast hκ C 19 rfl b8 dX2_isLine_39 ?_
    refine jm_nmT h (fun T7 h => ?_)
    refine j_aload_n C dX2_isLine_40 rfl rfl ?_
    refine j_bipush C (v := 63) dX2_isLine_41 rfl ?_
    obtain ⟨v10, T11, e9, h⟩ := ob2 h
    refine jm_Vi hκ C (mt_m_is hκ G e9) hG_m_is hy_m_is rfl rfl dX2_isLine_43 (jfit.of (Nat.le_of_ble_eq_true rfl) (by decide) (Nat.zero_le _) (Nat.zero_le _) (Nat.le_of_ble_eq_true rfl)) rfl ?_
    refine j_if_eq C dX2_isLine_46 (tgt := 71) (by decide) (fun c => ?_) (fun c => ?_)
    · replace h := ip c h
      exact j_sub (wm_isLine_b71 hκ N C _ h) ⟨rfl, trivial⟩
    replace h := im c h
    refine j_aload_n C dX2_isLine_49 rfl rfl ?_
    refine jm_geta hκ C 19 (by decide) rfl q1656 dX2_isLine_50 ?_
    refine j_aload_n C dX2_isLine_53 rfl rfl ?_
    refine jm_geti hκ C 17 (by decide) rfl q1654 dX2_isLine_54 ?_
    refine j_aload_n C dX2_isLine_57 rfl rfl ?_
    refine jm_geti hκ C 16 (by decide) rfl q1653 dX2_isLine_58 ?_
    obtain ⟨b13, h⟩ := chk_some h
    refine jm_iast hκ C 19 rfl b13 dX2_isLine_61 ?_
    refine jm_nmT h (fun T12 h => ?_)
    refine j_aload_n C dX2_isLine_62 rfl rfl ?_
    obtain ⟨v15, T16, e14, h⟩ := ob2 h
    refine jm_Vi hκ C (mt_m_isE hκ N G (mt_m_isO hκ N G 10) e14) hG_m_isE hy_m_isE rfl rfl dX2_isLine_63 (jfit.of (Nat.le_of_ble_eq_true rfl) (by decide) (Nat.zero_le _) (Nat.zero_le _) (Nat.le_of_ble_eq_true rfl)) rfl ?_
    refine j_if_ne C dX2_isLine_66 (tgt := 71) (by decide) (fun c => ?_) (fun c => ?_)
    · replace h := im c h
      exact j_sub (wm_isLine_b71 hκ N C _ h) ⟨rfl, trivial⟩
    replace h := ip c h
    refine j_iconst C (v := 0) dX2_isLine_69 rfl ?_
    obtain ⟨rfl, rfl⟩ := sp2 h
    exact j_zret C rfl dX2_isLine_70 (Nat.zero_le _) (Nat.zero_le _) ⟨rfl, rfl⟩
  replace h := ip c h
  refine j_iconst C (v := 0) dX2_isLine_20 rfl ?_
  obtain ⟨rfl, rfl⟩ := sp2 h
  exact j_zret C rfl dX2_isLine_21 (Nat.zero_le _) (Nat.zero_le _) ⟨rfl, rfl⟩
